/-! the plain law: line; what cost asks -/
set_option maxRecDepth 100000
theorem bind2 {α β : Type} {o : Option α} {f : α → Option β} {a : α} {b : β} (h : (o.bind fun a => (f a).bind fun b => some (a, b)) = some (a, b)) : o = some a ∧ f a = some b := by
  cases o with
  | none => exact absurd h (by simp)
  | some a' =>
    rw [bind_is] at h
    cases hf : f a' with
    | none =>
      rw [hf] at h
      exact absurd h (by simp)
    | some b' =>
      rw [hf, bind_is] at h
      have hp := Option.some.inj h
      have h1 : a' = a := congrArg Prod.fst hp
      have h2 : b' = b := congrArg Prod.snd hp
      subst h1 h2
      exact ⟨rfl, hf⟩
theorem rows_eq {N P W0 H D s bk M C R n : Nat} {g fuel burns : Nat → Int32} {men : Nat → Option Nat} {IM : Nat → Nat → Int32} {w : Nat → Int32} (hY : YV M C R P g fuel burns men IM w) (hTY : TY g w H D s bk) (hW0 : W0 ≤ 9999) {asked team : Nat → Int32} (hN : 2 ≤ N) (hN2 : N ≤ 12) (hT : ∀ k, k < N → ∃ m, m < M ∧ asked k = nI m ∧ team k = nI m) (hn : n ≤ 3600)
    (m0 w0 t0 k0 e0 f0 b0 d0 s0 : Int32) (a0 dn bs li st fi hp bks : Nat → Int32) (pa : Nat → Nat → Int32) (q1 q2 q3 q4 q5 q6 q7 q8 q9 q10 : Int32) (rest load done queue waits most comes state : Nat → Int32) :
    Ok (f1_rows (nI N) (nI n) (nI W0) 12 (g 306) (g 307) (g 308) (g 309) (g 311) (g 312) (g 313) m0 w0 t0 k0 e0 f0 b0 d0 s0 a0 dn bs li st fi hp bks asked men (IM 1201) (IM 1203) pa) (fun x => Ok (f14_throwsIn 1 (nI N) (nI W0) (nI n) q1 q2 q3 q4 q5 q6 q7 q8 q9 q10 w team rest load done queue waits most comes state) (fun y => ∃ T : Nat, T ≤ 9999 ∧ x.1 = nI T ∧ y.1 = nI T)) := by
  obtain ⟨⟨rr6, rr7⟩, exx, rr14, eyy, T, hT9, c1, c2, c3, -⟩ := throwsIn_row hY hTY hW0 hN hN2 hT hn m0 w0 t0 k0 e0 f0 b0 d0 s0 a0 dn bs li st fi hp bks pa q1 q2 q3 q4 q5 q6 q7 q8 q9 q10 rest load done queue waits most comes state
  obtain ⟨h1, h2⟩ := bind2 exx
  unfold f1_rows
  rw [h1, bind_is, h2, bind_is]
  exact ok_i (ok_eq eyy ⟨T, hT9, c2, c3⟩)
theorem runs_eq {N P W0 H D s bk M C R n : Nat} {g fuel burns : Nat → Int32} {men : Nat → Option Nat} {IM : Nat → Nat → Int32} {w : Nat → Int32} (hY : YV M C R P g fuel burns men IM w) (hTY : TY g w H D s bk) (hW0 : W0 ≤ 9999) {asked team : Nat → Int32} (hN2 : N ≤ 12) (hT : ∀ k, k < N → ∃ m, m < M ∧ asked k = nI m ∧ team k = nI m) (hn : n ≤ 3600)
    (g310 : g 310 = nI W0) (m0 w0 t0 k0 e0 : Int32) (a0 does left lis : Nat → Int32) (q1 q2 q3 q4 q5 q6 q7 q8 q9 q10 : Int32) (rest load done queue waits most comes state : Nat → Int32) :
    Ok (f1_runs (nI N) (nI n) 12 (g 306) (g 307) (g 308) (g 309) (nI W0) m0 w0 t0 k0 e0 a0 does left lis asked men (IM 1202)) (fun x => Ok (f14_throwsIn 2 (nI N) (nI W0) (nI n) q1 q2 q3 q4 q5 q6 q7 q8 q9 q10 w team rest load done queue waits most comes state) (fun y => ∃ T D : Nat, T ≤ 9999 ∧ D ≤ W0 ∧ x.1 = nI T ∧ y.1 = nI T ∧ x.2.2.1 = nI (W0 - D) ∧ y.2.2.2.2.2.2.2.2.2.2.1 = nI D)) := by
  have h := throwsIn_run hY hTY hW0 hN2 hT hn g310 m0 w0 t0 k0 e0 a0 does left lis q1 q2 q3 q4 q5 q6 q7 q8 q9 q10 rest load done queue waits most comes state
  rw [g310] at h
  exact h
theorem line_eq {M C R P : Nat} {g fuel burns : Nat → Int32} {men : Nat → Option Nat} {IM : Nat → Nat → Int32} {w : Nat → Int32} {bg : Int32} (hbg : bg = 0 ∨ bg = 1) (hY : YV M C R P g fuel burns men IM (layF bg w)) (p : Int32) (y : Nat)
    (m0 w0 t0 k0 e0 f0 b0 d0 s0 n1 n2 n3 n4 n5 : Int32) (o0 o1 : Option Nat) (a0 dn bs li st fi hp bks b1 b2 b3 b4 inT : Nat → Int32) (pa : Nat → Nat → Int32) (th q1 q2 q3 q4 q5 q6 q7 q8 q9 q10 : Int32) (team rest load done queue waits most comes state : Nat → Int32) :
    Ok (f1_line p y (g 303) (g 306) (g 307) (g 308) (g 309) (g 310) (g 311) (g 312) (g 313) m0 w0 t0 k0 e0 f0 b0 d0 s0 n1 n2 n3 n4 n5 o0 o1 a0 dn bs li st fi hp bks b1 b2 b3 b4 inT men (IM 1201) (IM 1202) (IM 1203) pa) (fun x => Ok (f14_line p th bg q1 q2 q3 q4 q5 q6 q7 q8 q9 q10 w team rest load done queue waits most comes state) (fun y => x.1 = y.1 ∧ y.2.1 = 0 ∧ y.2.2.1 = 1 ∧ y.2.2.2.2.2.2.2.2.2.2.2.2.2.1 = layF bg w)) := by
  have hY0 := hY
  obtain ⟨⟨hM, -, -, -, -, hP⟩, ⟨g303, w0', -, -, -, -, g307, -⟩, -⟩ := hY0
  obtain ⟨H, D, s, bk, W0, hTY, hW0, g310, w5⟩ := hY.ty
  unfold f1_line f14_line
  rw [lay_ok hbg, bind_is]
  dsimp only
  rcases ticks_cc p with ⟨e, e'⟩ | ⟨e, e', j, hj, rfl⟩
  · rw [e, e', bind_is, bind_is, if_pos rfl, if_pos rfl]
    exact ok_i (ok_i ⟨rfl, rfl, rfl, rfl⟩)
  · rw [e, e', bind_is, bind_is, if_neg (by decide), if_neg (by decide)]
    have z1 : Ok (whl (fun (s3 : Int32 × (Nat → Int32)) => f1_line_s3 s3.1 s3.2) FU ((0 : Int32), inT)) (fun x => ∀ k, k < 12 → x k = nI k) := by
      refine for_ok (fun i (x : Nat → Int32) => (nI i, x)) (fun i x => ∀ k, k < i → x k = nI k) 12 (by decide) (fun k h => absurd h (Nat.not_lt_zero _)) ?_ ?_
      · intro i x hi hI
        have hi12 : inb (nI i) 12 := inb_nI hi (by decide)
        have hic : (nI i).toNatClampNeg = i := nI_clamp (by omega)
        dsimp only
        unfold f1_line_s3
        rw [show (12 : Int32) = nI 12 from rfl, if_neg (nI_ge hi (by decide))]
        simp only [gd_t hi12, lt_is, hic, nI_1]
        refine ok_i ⟨_, rfl, fun k hk => ?_⟩
        by_cases e : k = i
        · subst e; rw [pk_us]
        · rw [pk_un e]; exact hI k (by omega)
      · intro x hI
        dsimp only
        unfold f1_line_s3
        rw [if_pos (show (12 : Int32) ≤ nI 12 by decide)]
        exact ok_i ⟨_, rfl, hI⟩
    obtain ⟨it, eit, hit⟩ := z1
    have z14 : Ok (whl (fun (s4 : Int32 × (Nat → Int32)) => f14_line_s4 ((1 : Int32), layF bg w) s4.1 s4.2) FU ((0 : Int32), team)) (fun x => ∀ k, k < M → x k = nI k) := by
      refine for_ok (fun i (x : Nat → Int32) => (nI i, x)) (fun i x => ∀ k, k < i → x k = nI k) M (by omega) (fun k h => absurd h (Nat.not_lt_zero _)) ?_ ?_
      · intro i x hi hI
        have hi12 : inb (nI i) 12 := inb_nI (by omega) (by decide)
        have hic : (nI i).toNatClampNeg = i := nI_clamp (by omega)
        dsimp only
        unfold f14_line_s4
        rw [men_is, bind_is]
        dsimp only
        rw [if_neg (by rw [w0']; exact nI_ge hi (by omega))]
        simp only [gd_t hi12, lt_is, hic, nI_1]
        refine ok_i ⟨_, rfl, fun k hk => ?_⟩
        by_cases e : k = i
        · subst e; rw [pk_us]
        · rw [pk_un e]; exact hI k (by omega)
      · intro x hI
        dsimp only
        unfold f14_line_s4
        rw [men_is, bind_is]
        dsimp only
        rw [if_pos (by rw [w0']; exact nI_le (Nat.le_refl _) (by omega))]
        exact ok_i ⟨_, rfl, hI⟩
    obtain ⟨tm, etm, htm⟩ := z14
    rw [eit, bind_is, etm, bind_is]
    unfold f1_line_e3_0 f14_line_e4_0
    refine ok_b2 (S := fun x y => (Sum.elim (f1_line_e4_0 it) (f1_line_e4_1) x).isSome = true ∧ ∀ x' y', Sum.elim (f1_line_e4_0 it) (f1_line_e4_1) x = some x' → Sum.elim (f14_line_e5_0 ((1 : Int32), layF bg w) tm) (f14_line_e5_1) y = some y' → x'.1 = y'.1 ∧ y'.2.1 = 0 ∧ y'.2.2.1 = 1 ∧ y'.2.2.2.2.2.2.2.2.2.2.2.2.2.1 = layF bg w) ?_ ?_
    · refine ok_lp2 (fun k (s : Int32 × Int32 × Int32 × Int32 × Int32 × Int32 × Int32 × Int32 × Int32 × Int32 × Int32 × Int32 × Int32 × Int32 × Int32 × (Option Nat) × (Option Nat) × (Nat → Int32) × (Nat → Int32) × (Nat → Int32) × (Nat → Int32) × (Nat → Int32) × (Nat → Int32) × (Nat → Int32) × (Nat → Int32) × (Nat → Int32) × (Nat → Int32) × (Nat → Int32) × (Nat → Int32) × (Nat → Nat → Int32)) (t : Int32 × Int32 × Int32 × Int32 × Int32 × Int32 × Int32 × Int32 × Int32 × Int32 × Int32 × (Nat → Int32) × (Nat → Int32) × (Nat → Int32) × (Nat → Int32) × (Nat → Int32) × (Nat → Int32) × (Nat → Int32) × (Nat → Int32)) => ∃ f, f + k = M + 1 + (if M = 0 then 1 else 0) + 1 ∧ 2 ≤ f ∧ s.1 = nI f ∧ t.1 = nI f) (k := M + (if M = 0 then 1 else 0)) (by split <;> omega) ⟨2, by omega, Nat.le_refl _, rfl, rfl⟩ ?_
      rintro k ⟨s1, s2⟩ ⟨t1, t2⟩ ⟨f, hf, hf2, rfl, rfl⟩
      dsimp only
      unfold f1_line_s4 f14_line_s5
      rw [men_is, bind_is]
      dsimp only
      simp only [w0', g303]
      by_cases hfM : M < f
      · rw [if_pos (nI_lt hfM (by split at hf <;> omega)), if_pos (nI_lt hfM (by split at hf <;> omega))]
        refine ok_i (ok_i ⟨rfl, fun x' y' hx hy => ?_⟩)
        cases hx
        cases hy
        exact ⟨rfl, rfl, rfl, rfl⟩
      · rw [if_neg (nI_nlt (show f ≤ M by omega) (by omega)), if_neg (nI_nlt (show f ≤ M by omega) (by omega))]
        simp only [gd_t (show inb (5 : Int32) 800 by decide), lt_is, show (5 : Int32).toNatClampNeg = 5 from rfl, w5]
        have hTf : ∀ k, k < f → ∃ m, m < M ∧ it k = nI m ∧ tm k = nI m := fun k hk => ⟨k, by omega, hit k (by omega), htm k (by omega)⟩
        rw [g310]
        refine ok_b2 (rows_eq hY hTY hW0 hf2 (by omega) hTf hj ..) ?_
        rintro x y ⟨T, hT9, e1, e2⟩
        refine ok_b2 (runs_eq hY hTY hW0 (show f ≤ 12 by omega) hTf hj g310 ..) ?_
        rintro x' y' ⟨T', D', hT9', -, e1', e2', -⟩
        rw [e1, e2, e1', e2']
        by_cases q : T ≤ T'
        · rw [if_pos (nI_le q (by omega)), if_pos (nI_le q (by omega)), nI_1]
          have hif : (if M = 0 then 1 else 0) = 0 := if_neg (by omega)
          rw [hif] at hf
          exact ok_i (ok_i ⟨k - 1, by omega, f + 1, by rw [hif]; omega, by omega, rfl, rfl⟩)
        · rw [if_neg (nI_ge (show T' < T by omega) (by omega)), if_neg (nI_ge (show T' < T by omega) (by omega))]
          refine ok_i (ok_i ⟨rfl, fun x' y' hx hy => ?_⟩)
          cases hx
          cases hy
          exact ⟨rfl, rfl, rfl, rfl⟩
    · rintro x y ⟨h1, h2⟩
      obtain ⟨x', hx'⟩ := Option.isSome_iff_exists.mp h1
      rw [hx']
      refine ok_i ?_
      cases y with
      | inl y => exact ok_i (h2 _ _ hx' rfl)
      | inr y => exact ok_i (h2 _ _ hx' rfl)
