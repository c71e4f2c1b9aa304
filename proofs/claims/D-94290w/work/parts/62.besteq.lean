/-! the plain law: best, joined -/
set_option maxRecDepth 100000
theorem sort_1 {N M : Nat} {b : Nat → Nat} {X : Nat → Int32} {q1 : Int32} (hN : 1 ≤ N) (hN7 : N ≤ 7) (hM : M ≤ 12) (hb : ∀ k, k < N → b k < M ∧ X k = nI (b k)) : Ok (whl (fun (s4 : Int32 × (Nat → Int32)) => f1_best_s4 (q1, nI N, X) s4.1 s4.2) FU ((1 : Int32), X)) (fun x => ∀ k, k < N → x k = nI (srt b N k)) := by
  refine for_ok (fun i (x : Nat → Int32) => (nI (i + 1), x)) (fun i x => (∀ k, k < i + 1 → x k = nI (srt b (i + 1) k)) ∧ ∀ k, i + 1 ≤ k → k < N → x k = nI (b k)) (N - 1) (by omega) ⟨fun k hk => ?_, fun k _ hk => (hb k hk).2⟩ ?_ ?_
  · have : k = 0 := by omega
    subst this
    show X 0 = nI (if 0 = 0 then b 0 else 0)
    rw [if_pos rfl]
    exact (hb 0 (by omega)).2
  · rintro i x hi ⟨h1, h2⟩
    have hic : (nI (i + 1)).toNatClampNeg = i + 1 := nI_clamp (by omega)
    dsimp only
    unfold f1_best_s4
    dsimp only
    rw [if_neg (nI_ge (show i + 1 < N by omega) (by omega))]
    simp only [gd_t (inb_nI (show i + 1 < 12 by omega) (by decide)), lt_is, hic, h2 (i + 1) (Nat.le_refl _) (by omega)]
    have hlt := srt_lt (M := M) (n := N) (b := b) (fun k hk => (hb k hk).1) (i + 1) (by omega)
    obtain ⟨⟨r1, r2⟩, er, j, hj, rfl, f1, f2⟩ := ins_1 (w := i + 1) (v := b (i + 1)) (X := x) (A := srt b (i + 1)) (by omega) (by have := (hb (i + 1) (by omega)).1; omega) (fun k hk => ⟨h1 k hk, by have := hlt k hk; omega⟩)
    dsimp only at f1 f2
    rw [er, bind_is]
    unfold f1_best_e9_0
    have hjc : (nI j).toNatClampNeg = j := nI_clamp (by omega)
    simp only [gd_t (inb_nI (show j < 12 by omega) (by decide)), lt_is, hjc, nI_1]
    refine ok_i ⟨_, rfl, fun k hk => f1 k (by omega), fun k hk hkN => ?_⟩
    rw [pk_un (by omega), f2 k (by omega)]
    exact h2 k (by omega) hkN
  · rintro x ⟨h1, -⟩
    dsimp only
    unfold f1_best_s4
    dsimp only
    have e : N - 1 + 1 = N := by omega
    rw [e] at h1 ⊢
    rw [if_pos (nI_le (Nat.le_refl _) (by omega))]
    exact ok_i ⟨_, rfl, h1⟩
theorem sort_14 {N M : Nat} {b : Nat → Nat} {X team now : Nat → Int32} {q1 q2 q3 : Int32} (hN7 : N ≤ 7) (hM : M ≤ 12) (hb : ∀ k, k < N → b k < M ∧ team k = nI (b k)) : Ok (whl (fun (s3 : Int32 × (Nat → Int32)) => f14_best_s3 (q1, q2, q3, nI N, now, team) s3.1 s3.2) FU ((0 : Int32), X)) (fun x => ∀ k, k < N → x k = nI (srt b N k)) := by
  refine for_ok (fun i (x : Nat → Int32) => (nI i, x)) (fun i x => ∀ k, k < i → x k = nI (srt b i k)) N (by omega) (fun k hk => absurd hk (Nat.not_lt_zero _)) ?_ ?_
  · rintro i x hi h1
    have hic : (nI i).toNatClampNeg = i := nI_clamp (by omega)
    dsimp only
    unfold f14_best_s3
    dsimp only
    rw [if_neg (nI_ge hi (by omega))]
    have hlt := srt_lt (M := M) (n := N) (b := b) (fun k hk => (hb k hk).1) i (by omega)
    obtain ⟨⟨r1, r2⟩, er, j, hj, rfl, f1, f2⟩ := ins_14 (w := i) (v := b i) (X := x) (A := srt b i) (team := team) (now := now) (q1 := q1) (q2 := q2) (q3 := q3) (q4 := nI N) (by omega) (hb i hi).2 (by have := (hb i hi).1; omega) (fun k hk => ⟨h1 k hk, by have := hlt k hk; omega⟩)
    rw [er, bind_is]
    unfold f14_best_e13_0
    have hjc : (nI j).toNatClampNeg = j := nI_clamp (by omega)
    simp only [gd_t (inb_nI (show i < 12 by omega) (by decide)), gd_t (inb_nI (show j < 7 by omega) (by decide)), lt_is, hjc, hic, nI_1, (hb i hi).2]
    exact ok_i ⟨_, rfl, fun k hk => f1 k (by omega)⟩
  · rintro x h1
    dsimp only
    unfold f14_best_s3
    dsimp only
    rw [if_pos (nI_le (Nat.le_refl _) (by omega))]
    exact ok_i ⟨_, rfl, h1⟩
theorem best_eq {M C R P n : Nat} {g fuel burns : Nat → Int32} {men : Nat → Option Nat} {IM : Nat → Nat → Int32} {w t1 t14 : Nat → Int32} {b : Nat → Nat} {bg : Int32} (hT : TP b t1 t14) (hn : n ≤ 740) (hbg : bg = 0 ∨ bg = 1) (hY : YV M C R P g fuel burns men IM (layF bg w)) (y : Nat)
    (sz am bp q1 q2 q3 q4 q5 q6 q7 q8 q9 : Int32) (x0 : Option Nat) (a1 a2 a3 a4 a5 a6 a7 asked order : Nat → Int32) (th tm bp14 am14 : Int32) (team order14 asked14 row14 : Nat → Int32) {bm1 bm14 : Int32} {bes told : Nat → Int32} (hk : pKept 7 bm1 bm14 bes told) :
    Ok (f1_best y (nI n) sz am bm1 bp (g 303) (g 306) (g 307) (g 309) (g 313) q1 q2 q3 q4 q5 q6 q7 q8 q9 x0 t1 a1 a2 a3 a4 a5 a6 a7 asked order bes men (IM 1201)) (fun x => Ok (f14_best th (nI n) bg tm bp14 bm14 am14 t14 w team order14 asked14 row14 told) (fun y => x.1 = y.1 ∧ x.2.1 = nI 0 ∧ Left bg w y.2.1 y.2.2.1 y.2.2.2.1 y.2.2.2.2.2.2.2.2.1 ∧ pKept 7 x.2.2.2.2.1 y.2.2.2.2.2.2.1 x.2.2.2.2.2.2.2.2.2.2.2.2.2.2.2.2.2.2.2.2.2.2.2.2.2 y.2.2.2.2.2.2.2.2.2.2.2.2.2)) := by
  have hY0 := hY
  obtain ⟨⟨hM, -, -, -, -, hP⟩, ⟨g303, w0', -, -, -, -, g307, -⟩, -⟩ := hY0
  unfold f1_best f14_best f1_taken
  rw [bind_is]
  obtain ⟨x1, x2, x3, y4, y6, ex, ey, h⟩ := ask_use (lo := 2) (hi := 7) (am := am) (tm := tm) (asked := asked) (team := team) hT hn hM hbg w0' (by decide) (by decide) g303
  refine ok_e ex (ok_sw (ok_e ey (ok_sw ?_)))
  dsimp only
  rcases h with rfl | ⟨rfl, rfl, rfl, h1, h2, b, hA, -⟩
  · rw [if_pos rfl, if_pos rfl]
    exact ok_i (ok_i ⟨rfl, rfl, ⟨rfl, rfl, rfl, rfl⟩, hk⟩)
  · rw [if_neg (by decide), if_neg (by decide)]
    obtain ⟨u1, eu1, hu1⟩ := sort_1 (q1 := (1 : Int32)) (N := n) (b := b) (X := x3) (by omega) h2 hM (fun k hk => ⟨(hA k hk).1, (hA k hk).2.1⟩)
    obtain ⟨u14, eu14, hu14⟩ := sort_14 (q1 := (1 : Int32)) (q2 := (0 : Int32)) (q3 := (1 : Int32)) (N := n) (b := b) (X := asked14) (team := y6) (now := layF bg w) h2 hM (fun k hk => ⟨(hA k hk).1, (hA k hk).2.2⟩)
    obtain ⟨T, hTm⟩ := tim_ex hY (N := n) (by omega) (by omega)
    have hlt := srt_lt (M := M) (n := n) (b := b) (fun k hk => (hA k hk).1) n (Nat.le_refl _)
    rw [eu1, bind_is, eu14, bind_is]
    unfold f1_best_e4_0 f14_best_e3_0
    dsimp only
    refine ok_b2 (ord_eq (asked := u1) (av := srt b n) hTm h2 g307 (fun k hk => ⟨hu1 k hk, hlt k hk⟩) hu14 y 9 0 0 (fun _ => 0) 1000000000 (-1) order bes order14 row14 q1 q2 q3 q4 q5 q6 q7 q8 q9 x0 a1 a2 a3 a4 a5 a6 a7 (Nat.zero_le _) (by omega) (by decide) (fun j hj => absurd hj (Nat.not_lt_zero _)) (fun j hj => absurd hj (Nat.not_lt_zero _)) (Or.inl ⟨rfl, rfl⟩)) ?_
    rintro x ⟨z1, z2, z3⟩ ⟨hR, -, hF⟩
    dsimp only at hR hF ⊢
    rcases hR with ⟨-, hz⟩ | ⟨v, hv, e1, e2, hrow⟩
    · exact absurd hz (hF (Or.inr rfl))
    · have z7 : Ok (whl (fun (s5 : Int32 × (Nat → Int32)) => f14_best_s5 ((1 : Int32), (0 : Int32), (1 : Int32), nI n, layF bg w, y6) (z1, z2, z3) s5.1 s5.2) FU ((0 : Int32), told)) (fun z => ∀ k, k < n → z k = z3 k) := by
        refine for_ok (fun i (x : Nat → Int32) => (nI i, x)) (fun i x => ∀ k, k < i → x k = z3 k) n (by omega) (fun k h => absurd h (Nat.not_lt_zero _)) ?_ ?_
        · intro i x hi hI
          have hi7 : inb (nI i) 7 := inb_nI (by omega) (by decide)
          have hic : (nI i).toNatClampNeg = i := nI_clamp (by omega)
          dsimp only
          unfold f14_best_s5
          dsimp only
          rw [if_neg (nI_ge hi (by omega))]
          simp only [gd_t hi7, lt_is, hic, nI_1]
          refine ok_i ⟨_, rfl, fun k hk => ?_⟩
          by_cases e : k = i
          · subst e; rw [pk_us]
          · rw [pk_un e]; exact hI k (by omega)
        · intro x hI
          dsimp only
          unfold f14_best_s5
          dsimp only
          rw [if_pos (nI_le (Nat.le_refl _) (by omega))]
          exact ok_i ⟨_, rfl, hI⟩
      obtain ⟨z, ez, hz7⟩ := z7
      rw [ez, bind_is]
      unfold f14_best_e5_0
      dsimp only
      refine ok_i (ok_i ⟨e1.trans e2.symm, rfl, ⟨rfl, rfl, rfl, rfl⟩, n, h2, rfl, rfl, fun i hi => ?_⟩)
      dsimp only
      rw [hz7 i hi, hrow i hi]
