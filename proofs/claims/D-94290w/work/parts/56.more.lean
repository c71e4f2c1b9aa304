/-! the plain law: more, row -/
set_option maxRecDepth 100000
def BesR (N L : Nat) (x y : Nat → Int32) : Prop := ∀ k, k < N → ∃ q : Nat, q ≤ L ∧ x k = nI q ∧ y k = nI q
theorem shared_eq {M C R P N L k : Nat} {g fuel burns : Nat → Int32} {men : Nat → Option Nat} {IM : Nat → Nat → Int32} {w : Nat → Int32} (hY : YV M C R P g fuel burns men IM w) (hN : 2 ≤ N) (hN2 : N ≤ 12) {a team : Nat → Int32} (hT : ∀ k, k < N → ∃ m, m < M ∧ a k = nI m ∧ team k = nI m) {x y : Nat → Int32} (hxy : BesR N L x y) (hL : L ≤ 100) (hk : k < N) : ∃ v : Nat, v ≤ 1000 ∧ f1_timeBy (nI k) (g 306) (g 309) (g 313) (nI N) a x men (IM 1201) = some (nI v) ∧ f14_shared (nI k) (nI N) w team y = some (nI v) := by
  obtain ⟨m, hm, ha, hte⟩ := hT k hk
  obtain ⟨t, h1, h2, e1, e14⟩ := time_eq hY hN hN2 hk hm ha
  obtain ⟨q, hq, e2, e3⟩ := hxy k hk
  have hk12 : inb (nI k) 12 := inb_nI (by omega) (by decide)
  have hkc : (nI k).toNatClampNeg = k := nI_clamp (by omega)
  refine ⟨(t + (q + 1) - 1) / (q + 1), ?_, ?_, ?_⟩
  · exact Nat.le_trans (Nat.div_le_self _ _) (by omega)
  · unfold f1_timeBy
    rw [e1, bind_is]
    simp only [gd_t hk12, lt_is, hkc, e2, nI_1]
    rw [up1 (by omega) (by omega), bind_is]
  · unfold f14_shared
    simp only [gd_t hk12, lt_is, hkc, hte, e14, bind_is, e3, nI_1]
    rw [up14 (by omega) (by omega), bind_is]
theorem slow_eq {M C R P N L : Nat} {g fuel burns : Nat → Int32} {men : Nat → Option Nat} {IM : Nat → Nat → Int32} {w : Nat → Int32} (hY : YV M C R P g fuel burns men IM w) (hN : 2 ≤ N) (hN2 : N ≤ 12) {a team : Nat → Int32} (hT : ∀ k, k < N → ∃ m, m < M ∧ a k = nI m ∧ team k = nI m) {x y : Nat → Int32} (hxy : BesR N L x y) (hL : L ≤ 100) : Ok (f1_slowest (nI N) (g 306) (g 309) (g 313) (nI N) a x men (IM 1201)) (fun r => Ok (f14_longest (nI N) w team y) (fun q => ∃ j, j < N ∧ r = nI j ∧ q = nI j)) := by
  unfold f1_slowest f14_longest
  refine ok_b2 (S := fun r q => ∃ j, j < N ∧ r = nI j ∧ q = nI j) ?_ (fun x y h => ok_i (ok_i h))
  refine for2_ok (fun i (x : Int32) => (x, nI (i + 1))) (fun i (x : Int32) => (x, nI (i + 1))) (fun i x y => ∃ j, j < N ∧ x = nI j ∧ y = nI j) (N - 1) (by omega) ⟨0, by omega, rfl, rfl⟩ ?_ ?_
  · rintro i r q hi ⟨j, hj, rfl, rfl⟩
    obtain ⟨v1, l1, a1, a2⟩ := shared_eq hY hN hN2 hT hxy hL (show i + 1 < N by omega)
    obtain ⟨v2, l2, b1, b2⟩ := shared_eq hY hN hN2 hT hxy hL hj
    dsimp only
    unfold f1_slowest_s1 f14_longest_s1 f1_slowest_j27 f14_longest_j26
    rw [if_neg (nI_ge (show i + 1 < N by omega) (by omega)), if_neg (nI_ge (show i + 1 < N by omega) (by omega)), a1, bind_is, b1, bind_is, a2, bind_is, b2, bind_is, lt_is, nI_1]
    by_cases e : v1 ≤ v2
    · rw [if_pos (nI_le e (by omega))]
      exact ok_i (ok_i ⟨_, _, rfl, rfl, j, hj, rfl, rfl⟩)
    · rw [if_neg (nI_ge (show v2 < v1 by omega) (by omega))]
      exact ok_i (ok_i ⟨_, _, rfl, rfl, i + 1, by omega, rfl, rfl⟩)
  · rintro r q h
    dsimp only
    unfold f1_slowest_s1 f14_longest_s1
    rw [if_pos (nI_le (show N ≤ N - 1 + 1 by omega) (by omega)), if_pos (nI_le (show N ≤ N - 1 + 1 by omega) (by omega))]
    exact ok_i (ok_i ⟨_, _, rfl, rfl, h⟩)
theorem more_eq {M C R P n : Nat} {g fuel burns : Nat → Int32} {men : Nat → Option Nat} {IM : Nat → Nat → Int32} {w t1 t14 : Nat → Int32} {b : Nat → Nat} {bg : Int32} (hT : TP b t1 t14) (hn : n ≤ 740) (hbg : bg = 0 ∨ bg = 1) (hY : YV M C R P g fuel burns men IM (layF bg w)) (p : Int32) (y : Nat)
    (sz am m0 w0 t0 k0 e0 f0 b0 d0 s0 : Int32) (o0 : Option Nat) (a0 dn bs li st fi hp asked : Nat → Int32) (th q1 : Int32) (team bes14 : Nat → Int32) {bm1 bm14 : Int32} {bes told : Nat → Int32} (hk : pKept 12 bm1 bm14 bes told) :
    Ok (f1_more p y (nI n) sz am bm1 (g 303) (g 306) (g 307) (g 309) (g 313) m0 w0 t0 k0 e0 f0 b0 d0 s0 o0 t1 a0 dn bs li st fi hp asked bes men (IM 1201)) (fun x => Ok (f14_more p th (nI n) bg q1 bm14 t14 w team bes14 told) (fun y => x.1 = y.1 ∧ x.2.1 = nI 0 ∧ Left bg w y.2.1 y.2.2.1 y.2.2.2.1 y.2.2.2.2.2.2.1 ∧ pKept 12 x.2.2.2.2.1 y.2.2.2.2.2.1 x.2.2.2.2.2.2.2.2.2.2.2.2.2.2.2.2.2.2.2.2.2.2.2 y.2.2.2.2.2.2.2.2.2)) := by
  have hY0 := hY
  obtain ⟨⟨hM, -, -, -, -, hP⟩, ⟨g303, w0', -, -, -, -, g307, -⟩, -⟩ := hY0
  unfold f1_more f14_more f1_taken
  rw [bind_is]
  obtain ⟨x1, x2, x3, y4, y6, ex, ey, h⟩ := ask_use (lo := 2) (hi := 12) (am := am) (tm := q1) (asked := asked) (team := team) hT hn hM hbg w0' (by decide) (by decide) g303
  refine ok_e ex (ok_sw (ok_e ey (ok_sw ?_)))
  dsimp only
  rcases h with rfl | ⟨rfl, rfl, rfl, h1, h2, hA⟩
  · rw [if_pos rfl, if_pos rfl]
    exact ok_i (ok_i ⟨rfl, rfl, ⟨rfl, rfl, rfl, rfl⟩, hk⟩)
  · rw [if_neg (by decide), if_neg (by decide)]
    rcases isIn_cc p (a := 0) (b := 9) (A := 0) (B := 9) rfl rfl (by decide) (by decide) with ⟨e, e', -⟩ | ⟨e, e', c, -, hc, rfl⟩
    · rw [e, e', bind_is, bind_is, if_pos rfl, if_pos rfl]
      exact ok_i (ok_i ⟨rfl, rfl, ⟨rfl, rfl, rfl, rfl⟩, hk⟩)
    · rw [e, e', bind_is, bind_is, if_neg (by decide), if_neg (by decide), g307]
      obtain ⟨x, ex', men', dn', bs', li', st', fi', hp', rfl, hm, hz⟩ := rowBegin_ok (P := P) (wat := 0) (x2 := x3) h2 m0 w0 t0 k0 e0 f0 b0 d0 s0 a0 dn bs li st fi hp
      rw [ex', bind_is]
      have hA' : ∀ k, k < n → ∃ m, m < M ∧ men' k = nI m ∧ y6 k = nI m := by
        intro k hk
        obtain ⟨m, c1, c2, c3⟩ := hA.hT k hk
        exact ⟨m, c1, (hm k hk).trans c2, c3⟩
      have z1 : Ok (whl (fun (s7 : Int32 × (Nat → Int32)) => f1_more_s7 s7.1 s7.2) FU ((0 : Int32), bes)) (fun x => ∀ k, k < 12 → x k = nI 0) := by
        refine for_ok (fun i (x : Nat → Int32) => (nI i, x)) (fun i x => ∀ k, k < i → x k = nI 0) 12 (by decide) (fun k h => absurd h (Nat.not_lt_zero _)) ?_ ?_
        · intro i x hi hI
          have hi12 : inb (nI i) 12 := inb_nI hi (by decide)
          have hic : (nI i).toNatClampNeg = i := nI_clamp (by omega)
          dsimp only
          unfold f1_more_s7
          rw [show (12 : Int32) = nI 12 from rfl, if_neg (nI_ge hi (by decide))]
          simp only [gd_t hi12, lt_is, hic, nI_1]
          refine ok_i ⟨_, rfl, fun k hk => ?_⟩
          by_cases e : k = i
          · subst e; rw [pk_us]; rfl
          · rw [pk_un e]; exact hI k (by omega)
        · intro x hI
          dsimp only
          unfold f1_more_s7
          rw [if_pos (show (12 : Int32) ≤ nI 12 by decide)]
          exact ok_i ⟨_, rfl, hI⟩
      obtain ⟨b1, eb1, hb1⟩ := z1
      rw [eb1, bind_is]
      have z14 : Ok (whl (fun (s5 : Int32 × (Nat → Int32)) => f14_more_s5 ((1 : Int32), (0 : Int32), (1 : Int32), nI n, layF bg w, y6) s5.1 s5.2) FU ((0 : Int32), bes14)) (fun x => ∀ k, k < n → x k = nI 0) := by
        refine for_ok (fun i (x : Nat → Int32) => (nI i, x)) (fun i x => ∀ k, k < i → x k = nI 0) n (by omega) (fun k h => absurd h (Nat.not_lt_zero _)) ?_ ?_
        · intro i x hi hI
          have hi12 : inb (nI i) 12 := inb_nI (by omega) (by decide)
          have hic : (nI i).toNatClampNeg = i := nI_clamp (by omega)
          dsimp only
          unfold f14_more_s5
          dsimp only
          rw [if_neg (nI_ge hi (by omega))]
          simp only [gd_t hi12, lt_is, hic, nI_1]
          refine ok_i ⟨_, rfl, fun k hk => ?_⟩
          by_cases e : k = i
          · subst e; rw [pk_us]; rfl
          · rw [pk_un e]; exact hI k (by omega)
        · intro x hI
          dsimp only
          unfold f14_more_s5
          dsimp only
          rw [if_pos (nI_le (Nat.le_refl _) (by omega))]
          exact ok_i ⟨_, rfl, hI⟩
      obtain ⟨b14, eb14, hb14⟩ := z14
      rw [eb14, bind_is]
      unfold f1_more_e7_0 f14_more_e5_0
      refine ok_b2 (S := fun x y => BesR n 9 x y) ?_ ?_
      · refine ok_w2 (for2_ok (P := fun x y => BesR n c x y) (fun i (x : Nat → Int32) => (nI i, x)) (fun i (x : Nat → Int32) => (nI i, x)) (fun i x y => BesR n i x y) c (by omega) (fun k hk => ⟨0, Nat.le_refl _, hb1 k (by omega), hb14 k hk⟩) ?_ ?_) (fun x y h k hk => ?_)
        · intro i x y hi hI
          dsimp only
          unfold f1_more_s8 f14_more_s6
          dsimp only
          rw [if_neg (nI_ge hi (by omega)), if_neg (nI_ge hi (by omega))]
          refine ok_b2 (slow_eq hY h1 h2 hA' hI (by omega)) ?_
          rintro r q ⟨j, hj, rfl, rfl⟩
          have hj12 : inb (nI j) 12 := inb_nI (by omega) (by decide)
          have hjc : (nI j).toNatClampNeg = j := nI_clamp (by omega)
          obtain ⟨v, hv, a1, a2⟩ := hI j hj
          simp only [gd_t hj12, lt_is, hjc, nI_1, a1, a2]
          refine ok_i (ok_i ⟨_, _, rfl, rfl, fun k hk => ?_⟩)
          by_cases e : k = j
          · subst e
            rw [pk_us, pk_us]
            exact ⟨v + 1, by omega, rfl, rfl⟩
          · rw [pk_un e, pk_un e]
            obtain ⟨v', hv', c1, c2⟩ := hI k hk
            exact ⟨v', by omega, c1, c2⟩
        · intro x y hI
          dsimp only
          unfold f1_more_s8 f14_more_s6
          rw [if_pos (nI_le (Nat.le_refl _) (by omega)), if_pos (nI_le (Nat.le_refl _) (by omega))]
          exact ok_i (ok_i ⟨_, _, rfl, rfl, hI⟩)
        · obtain ⟨v', hv', c1, c2⟩ := h k hk
          exact ⟨v', by omega, c1, c2⟩
      · intro x y hI
        unfold f1_more_e8_0 f14_more_e6_0
        dsimp only
        have z7 : Ok (whl (fun (s7 : Int32 × (Nat → Int32)) => f14_more_s7 ((1 : Int32), (0 : Int32), (1 : Int32), nI n, layF bg w, y6) y s7.1 s7.2) FU ((0 : Int32), told)) (fun z => ∀ k, k < n → z k = y k) := by
          refine for_ok (fun i (x : Nat → Int32) => (nI i, x)) (fun i x => ∀ k, k < i → x k = y k) n (by omega) (fun k h => absurd h (Nat.not_lt_zero _)) ?_ ?_
          · intro i x hi hI
            have hi12 : inb (nI i) 12 := inb_nI (by omega) (by decide)
            have hic : (nI i).toNatClampNeg = i := nI_clamp (by omega)
            dsimp only
            unfold f14_more_s7
            dsimp only
            rw [if_neg (nI_ge hi (by omega))]
            simp only [gd_t hi12, lt_is, hic, nI_1]
            refine ok_i ⟨_, rfl, fun k hk => ?_⟩
            by_cases e : k = i
            · subst e; rw [pk_us]
            · rw [pk_un e]; exact hI k (by omega)
          · intro x hI
            dsimp only
            unfold f14_more_s7
            dsimp only
            rw [if_pos (nI_le (Nat.le_refl _) (by omega))]
            exact ok_i ⟨_, rfl, hI⟩
        obtain ⟨z, ez, hz7⟩ := z7
        obtain ⟨r, er, q, eq, j, hj, rfl, rfl⟩ := slow_eq hY h1 h2 hA' hI (by decide)
        obtain ⟨v, hv, ev1, ev14⟩ := shared_eq hY h1 h2 hA' hI (by decide) hj
        rw [er, bind_is, ev1, bind_is, ez, bind_is]
        unfold f14_more_e7_0
        dsimp only
        rw [eq, bind_is, ev14, bind_is]
        refine ok_i (ok_i ⟨rfl, rfl, ⟨rfl, rfl, rfl, rfl⟩, n, h2, rfl, rfl, fun i hi => ?_⟩)
        obtain ⟨v', -, c1, c2⟩ := hI i hi
        dsimp only
        rw [hz7 i hi, c1, c2]
