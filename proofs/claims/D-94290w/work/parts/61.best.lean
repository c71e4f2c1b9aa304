/-! the plain law: best -/
set_option maxRecDepth 100000
def mxs (f : Nat → Nat) : Nat → Nat
  | 0 => 0
  | n + 1 => if f n ≤ mxs f n then mxs f n else f n
theorem mxs_congr {f h : Nat → Nat} {n : Nat} (e : ∀ j, j < n → f j = h j) : mxs f n = mxs h n := by
  induction n with
  | zero => rfl
  | succ n ih =>
    have i := ih (fun j hj => e j (by omega))
    have j := e n (by omega)
    show (if f n ≤ mxs f n then mxs f n else f n) = (if h n ≤ mxs h n then mxs h n else h n)
    rw [i, j]
theorem mxs_le {f : Nat → Nat} {n B : Nat} (e : ∀ j, j < n → f j ≤ B) : mxs f n ≤ B := by
  induction n with
  | zero => exact Nat.zero_le _
  | succ n ih =>
    have i := ih (fun j hj => e j (by omega))
    have j := e n (by omega)
    show (if f n ≤ mxs f n then mxs f n else f n) ≤ B
    by_cases q : f n ≤ mxs f n
    · rw [if_pos q]; exact i
    · rw [if_neg q]; exact j
theorem mxs_mono {f : Nat → Nat} {n : Nat} : mxs f n ≤ mxs f (n + 1) := by
  show mxs f n ≤ (if f n ≤ mxs f n then mxs f n else f n)
  by_cases q : f n ≤ mxs f n
  · rw [if_pos q]; exact Nat.le_refl _
  · rw [if_neg q]; omega
theorem or_lt7 {S v : Nat} (h : S < 2 ^ 7) (hv : v < 7) : S ||| 2 ^ v < 2 ^ 7 := Nat.or_lt_two_pow h (Nat.pow_lt_pow_right (by decide) hv)
theorem bits_up {p : Nat} (h : p < 7) : (2 ^ p - 1 ||| 2 ^ p) + 1 = 2 ^ (p + 1) := (show ∀ p, p < 7 → (2 ^ p - 1 ||| 2 ^ p) + 1 = 2 ^ (p + 1) by decide) p h
theorem bit_is {S v : Nat} (hS : S < 2 ^ 31) (hv : v < 31) : ((nI S >>> (nI v &&& 31)) &&& (1 : Int32) = 1) ↔ S.testBit v = true := by
  have h := has_is hS hv
  unfold f14_has at h
  rw [lt_is, lt_is] at h
  by_cases q : (nI S >>> (nI v &&& 31)) &&& (1 : Int32) = 1
  · rw [if_pos q] at h
    refine ⟨fun _ => ?_, fun _ => q⟩
    by_cases r : S.testBit v = true
    · exact r
    · rw [if_neg r] at h
      exact absurd (Option.some.inj h) (by decide)
  · rw [if_neg q] at h
    refine ⟨fun hh => absurd hh q, fun r => ?_⟩
    rw [if_pos r] at h
    exact absurd (Option.some.inj h) (by decide)
/-- the time at place i of man m, on both sides -/
def Tim (N M : Nat) (g : Nat → Int32) (men : Nat → Option Nat) (IM : Nat → Nat → Int32) (w : Nat → Int32) (T : Nat → Nat → Nat) : Prop := ∀ i m, i < N → m < M → T i m ≤ 140 ∧ f14_timeOf (nI i) (nI N) (nI m) w = some (nI (T i m)) ∧ ∀ a1 : Nat → Int32, a1 i = nI m → f10_time (nI i) (g 306) (g 309) (g 313) (nI N) a1 men (IM 1201) = some (nI (T i m))
theorem tim_ex {N M C R P : Nat} {g fuel burns : Nat → Int32} {men : Nat → Option Nat} {IM : Nat → Nat → Int32} {w : Nat → Int32} (hY : YV M C R P g fuel burns men IM w) (hN : 2 ≤ N) (hN2 : N ≤ 12) : ∃ T, Tim N M g men IM w T := by
  refine ⟨fun i m => match f14_timeOf (nI i) (nI N) (nI m) w with | some v => v.toNatClampNeg | none => 0, fun i m hi hm => ?_⟩
  obtain ⟨t, h1, h2, e1, e14⟩ := time_eq hY hN hN2 hi hm (a1 := fun _ => nI m) rfl
  have hc : (nI t).toNatClampNeg = t := nI_clamp (by omega)
  dsimp only
  rw [e14]
  dsimp only
  rw [hc]
  refine ⟨h2, rfl, fun a1 ha => ?_⟩
  obtain ⟨t', h1', h2', e1', e14'⟩ := time_eq hY hN hN2 hi hm ha
  rw [e14] at e14'
  have := Option.some.inj e14'
  rw [e1', this]
theorem per_is {N M : Nat} {g : Nat → Int32} {men : Nat → Option Nat} {IM : Nat → Nat → Int32} {w : Nat → Int32} {T : Nat → Nat → Nat} (hT : Tim N M g men IM w T) (hN2 : N ≤ 12) {a : Nat → Int32} {o : Nat → Nat} (ha : ∀ k, k < N → a k = nI (o k) ∧ o k < M) : f10_period (g 306) (g 309) (g 313) (nI N) a men (IM 1201) = some (nI (mxs (fun j => T j (o j)) N)) := by
  have h : Ok (f10_period (g 306) (g 309) (g 313) (nI N) a men (IM 1201)) (fun x => x = nI (mxs (fun j => T j (o j)) N)) := by
    unfold f10_period
    refine ok_b (Q := fun x => x = nI (mxs (fun j => T j (o j)) N)) ?_ (fun x h => ok_i h)
    refine for_ok (fun i (x : Int32) => (x, nI i)) (fun i (x : Int32) => x = nI (mxs (fun j => T j (o j)) i)) N (by omega) rfl ?_ ?_
    · rintro i x hi rfl
      obtain ⟨t1, -, t3⟩ := hT i (o i) hi (ha i hi).2
      have hm : mxs (fun j => T j (o j)) i ≤ 140 := mxs_le (fun j hj => (hT j (o j) (by omega) (ha j (by omega)).2).1)
      dsimp only
      unfold f10_period_s1
      rw [if_neg (nI_ge hi (by omega)), t3 a (ha i hi).1, bind_is]
      simp only [lt_is, nI_1]
      refine ok_i ⟨_, rfl, ?_⟩
      show (if nI (mxs (fun j => T j (o j)) i) < nI (T i (o i)) then nI (T i (o i)) else nI (mxs (fun j => T j (o j)) i)) = nI (if T i (o i) ≤ mxs (fun j => T j (o j)) i then mxs (fun j => T j (o j)) i else T i (o i))
      by_cases q : T i (o i) ≤ mxs (fun j => T j (o j)) i
      · rw [if_neg (nI_nlt q (by omega)), if_pos q]
      · rw [if_pos (nI_lt (by omega) (by omega)), if_neg q]
    · rintro x h
      dsimp only
      unfold f10_period_s1
      rw [if_pos (nI_le (Nat.le_refl _) (by omega))]
      exact ok_i ⟨_, rfl, h⟩
  obtain ⟨x, e, rfl⟩ := h
  exact e
theorem rowBegin_7 {N P : Nat} {wat : Int32} {x2 : Nat → Int32} (hN : N ≤ 7) (m0 w0 t0 k0 e0 f0 b0 d0 s0 : Int32) (men dn bs li st fi hp : Nat → Int32) : Ok (f10_begin (nI N) wat 7 (nI P) m0 w0 t0 k0 e0 f0 b0 d0 s0 men dn bs li st fi hp x2) (fun x => x.1 = nI N ∧ (∀ k, k < N → x.2.2.2.2.2.2.2.2.2.1 k = x2 k)) := by
  have e : f10_begin (nI N) wat 7 (nI P) m0 w0 t0 k0 e0 f0 b0 d0 s0 men dn bs li st fi hp x2 = f10_begin (nI N) wat 12 (nI P) m0 w0 t0 k0 e0 f0 b0 d0 s0 men dn bs li st fi hp x2 := by
    unfold f10_begin f9_beginR
    rw [gd_t (cp_n (show N ≤ 7 by omega) (show N ≤ 12 by omega) (by omega)), gd_t (cp_n (show N ≤ 12 by omega) (show N ≤ 12 by omega) (by omega))]
  rw [e]
  obtain ⟨x, ex, men', dn', bs', li', st', fi', hp', rfl, hm, -⟩ := rowBegin_ok (P := P) (wat := wat) (x2 := x2) (show N ≤ 12 by omega) m0 w0 t0 k0 e0 f0 b0 d0 s0 men dn bs li st fi hp
  exact ok_eq ex ⟨rfl, hm⟩
theorem od_ih {N M p k : Nat} {T : Nat → Nat → Nat} {av o : Nat → Nat} {asked order : Nat → Int32} (ha : ∀ k, k < N → asked k = nI (av k) ∧ av k < M) (ho : ∀ j, j < p → order j = nI (o j) ∧ o j < M) (hk : k < N) : (∀ j, j < p + 1 → upd order p (asked k) j = nI (if j = p then av k else o j) ∧ (if j = p then av k else o j) < M) ∧ mxs (fun j => T j (if j = p then av k else o j)) p = mxs (fun j => T j (o j)) p ∧ mxs (fun j => T j (if j = p then av k else o j)) (p + 1) = if T p (av k) ≤ mxs (fun j => T j (o j)) p then mxs (fun j => T j (o j)) p else T p (av k) := by
  have hc : mxs (fun j => T j (if j = p then av k else o j)) p = mxs (fun j => T j (o j)) p := mxs_congr (fun j hj => by
    rw [if_neg (by omega)])
  refine ⟨fun j hj => ?_, hc, ?_⟩
  · by_cases q : j = p
    · subst q
      rw [pk_us, if_pos rfl]
      exact ha k hk
    · rw [pk_un q, if_neg q]
      exact ho j (by omega)
  · show (if T p (if p = p then av k else o p) ≤ mxs (fun j => T j (if j = p then av k else o j)) p then mxs (fun j => T j (if j = p then av k else o j)) p else T p (if p = p then av k else o p)) = _
    rw [if_pos (show p = p from rfl), hc]
theorem ord_prune {N M P : Nat} {g : Nat → Int32} {men : Nat → Option Nat} {IM : Nat → Nat → Int32} {w : Nat → Int32} {T : Nat → Nat → Nat} {asked : Nat → Int32} {av : Nat → Nat} (hT : Tim N M g men IM w T) (hN7 : N ≤ 7) (g7 : g 307 = nI P) (ha : ∀ k, k < N → asked k = nI (av k) ∧ av k < M) (y : Nat) : ∀ (d p S bst : Nat) (o : Nat → Nat) (order best : Nat → Int32) (q1 q2 q3 q4 q5 q6 q7 q8 q9 : Int32) (x0 : Option Nat) (a1 a2 a3 a4 a5 a6 a7 : Nat → Int32), p ≤ N → N < d + p → S < 2 ^ 7 → (∀ j, j < p → order j = nI (o j) ∧ o j < M) → bst ≤ mxs (fun j => T j (o j)) p →
    Ok (fG_X1_orders d (nI p) (nI S) y (nI N) (nI bst) (g 306) (g 307) (g 309) (g 313) q1 q2 q3 q4 q5 q6 q7 q8 q9 x0 a1 a2 a3 a4 a5 a6 a7 asked order best men (IM 1201)) (fun x => x.1 = nI bst ∧ x.2.2.2.2.2.2.2.2.2.2.2.2.2.2.2.2.2.2.2 = best ∧ ∀ j, j < p → x.2.2.2.2.2.2.2.2.2.2.2.2.2.2.2.2.2.2.1 j = order j) := by
  intro d
  induction d with
  | zero =>
    intros
    omega
  | succ d ih =>
    intro p S bst o order best q1 q2 q3 q4 q5 q6 q7 q8 q9 x0 a1 a2 a3 a4 a5 a6 a7 hpN hd hS ho hb
    have hm : mxs (fun j => T j (o j)) p ≤ 140 := mxs_le (fun j hj => (hT j (o j) (by omega) (ho j (by omega)).2).1)
    show Ok (fb1_orders (fG_X1_orders d) (nI p) (nI S) y (nI N) (nI bst) (g 306) (g 307) (g 309) (g 313) q1 q2 q3 q4 q5 q6 q7 q8 q9 x0 a1 a2 a3 a4 a5 a6 a7 asked order best men (IM 1201)) _
    unfold fb1_orders
    by_cases hp : p = N
    · subst hp
      rw [if_pos rfl, g7]
      obtain ⟨rr, err, c1, c2⟩ := rowBegin_7 (N := p) (P := P) (wat := 0) (x2 := order) hN7 q1 q2 q3 q4 q5 q6 q7 q8 q9 a1 a2 a3 a4 a5 a6 a7
      rw [err, bind_is, c1, per_is hT (by omega) (a := rr.2.2.2.2.2.2.2.2.2.1) (o := o) (fun k hk => by rw [c2 k hk]; exact ho k hk), bind_is, if_neg (nI_nlt hb (by omega))]
      exact ok_i ⟨rfl, rfl, fun j hj => rfl⟩
    · rw [if_neg (fun h => hp ((nI_eq (by omega) (by omega)).mp h))]
      refine ok_b (Q := fun (x : Int32 × Int32 × Int32 × Int32 × Int32 × Int32 × Int32 × Int32 × Int32 × Int32 × (Option Nat) × (Nat → Int32) × (Nat → Int32) × (Nat → Int32) × (Nat → Int32) × (Nat → Int32) × (Nat → Int32) × (Nat → Int32) × (Nat → Int32) × (Nat → Int32)) => x.1 = nI bst ∧ x.2.2.2.2.2.2.2.2.2.2.2.2.2.2.2.2.2.2.2 = best ∧ ∀ j, j < p → x.2.2.2.2.2.2.2.2.2.2.2.2.2.2.2.2.2.2.1 j = order j) ?_ (fun x h => ok_i h)
      refine for_ok (fun i (x : Int32 × Int32 × Int32 × Int32 × Int32 × Int32 × Int32 × Int32 × Int32 × Int32 × (Option Nat) × (Nat → Int32) × (Nat → Int32) × (Nat → Int32) × (Nat → Int32) × (Nat → Int32) × (Nat → Int32) × (Nat → Int32) × (Nat → Int32) × (Nat → Int32)) => (nI i, x)) (fun i x => x.1 = nI bst ∧ x.2.2.2.2.2.2.2.2.2.2.2.2.2.2.2.2.2.2.2 = best ∧ ∀ j, j < p → x.2.2.2.2.2.2.2.2.2.2.2.2.2.2.2.2.2.2.1 j = order j) N (by omega) ⟨rfl, rfl, fun j hj => rfl⟩ ?_ ?_
      · rintro k x hk ⟨e1, e2, e3⟩
        dsimp only
        unfold f1_orders_s2
        rw [if_neg (nI_ge hk (by omega)), lt_is, lt_is]
        by_cases hb2 : S.testBit k = true
        · rw [if_pos ((bit_is (by omega) (by omega)).mpr hb2)]
          unfold f1_orders_j115
          rw [lt_is, nI_1]
          exact ok_i ⟨_, rfl, e1, e2, e3⟩
        · rw [if_neg (fun h => hb2 ((bit_is (by omega) (by omega)).mp h))]
          have hkc : (nI k).toNatClampNeg = k := nI_clamp (by omega)
          have hpc : (nI p).toNatClampNeg = p := nI_clamp (by omega)
          simp only [gd_t (inb_nI (show k < 12 by omega) (by decide)), gd_t (inb_nI (show p < 7 by omega) (by decide)), lt_is, hkc, hpc, nI_1, put_is (show k < 31 by omega), e1]
          obtain ⟨i1, i2, i3⟩ := od_ih (T := T) (order := x.2.2.2.2.2.2.2.2.2.2.2.2.2.2.2.2.2.2.1) (p := p) (o := o) (M := M) ha (fun j hj => by rw [e3 j hj]; exact ho j hj) hk
          refine ok_b (ih (p + 1) (S ||| 2 ^ k) bst (fun j => if j = p then av k else o j) _ _ _ _ _ _ _ _ _ _ _ _ _ _ _ _ _ _ _ (by omega) (by omega) (or_lt7 hS (by omega)) i1 (by have := mxs_mono (f := fun j => T j (if j = p then av k else o j)) (n := p); omega)) ?_
          rintro x' ⟨f1, f2, f3⟩
          unfold f1_orders_j115
          rw [lt_is, nI_1]
          refine ok_i ⟨_, rfl, f1, f2.trans e2, fun j hj => ?_⟩
          have := f3 j (by omega)
          rw [pk_un (by omega)] at this
          exact this.trans (e3 j hj)
      · rintro x h
        dsimp only
        unfold f1_orders_s2
        rw [if_pos (nI_le (Nat.le_refl _) (by omega))]
        exact ok_i ⟨_, rfl, h⟩
def OrR (N : Nat) (b1 b14 : Int32) (r1 r14 : Nat → Int32) : Prop := (b1 = nI 1000000000 ∧ b14 = -1) ∨ ∃ b : Nat, b ≤ 140 ∧ b1 = nI b ∧ b14 = nI b ∧ ∀ j, j < N → r1 j = r14 j
theorem ord_eq {N M P : Nat} {g : Nat → Int32} {men : Nat → Option Nat} {IM : Nat → Nat → Int32} {w : Nat → Int32} {T : Nat → Nat → Nat} {asked : Nat → Int32} {av : Nat → Nat} (hT : Tim N M g men IM w T) (hN7 : N ≤ 7) (g7 : g 307 = nI P) (ha : ∀ k, k < N → asked k = nI (av k) ∧ av k < M) {asked14 : Nat → Int32} (ha14 : ∀ k, k < N → asked14 k = nI (av k)) (y : Nat) : ∀ (d p S : Nat) (o : Nat → Nat) (b1 b14 : Int32) (order best order14 row14 : Nat → Int32) (q1 q2 q3 q4 q5 q6 q7 q8 q9 : Int32) (x0 : Option Nat) (a1 a2 a3 a4 a5 a6 a7 : Nat → Int32), p ≤ N → N < d + p → S < 2 ^ 7 → (∀ j, j < p → order j = nI (o j) ∧ o j < M) → (∀ j, j < p → order14 j = nI (o j)) → OrR N b1 b14 best row14 →
    Ok (fG_X1_orders d (nI p) (nI S) y (nI N) b1 (g 306) (g 307) (g 309) (g 313) q1 q2 q3 q4 q5 q6 q7 q8 q9 x0 a1 a2 a3 a4 a5 a6 a7 asked order best men (IM 1201)) (fun x => Ok (fG_X14_tryOrder d (nI p) (nI S) (nI (mxs (fun j => T j (o j)) p)) b14 (nI N) w order14 asked14 row14) (fun y => OrR N x.1 y.1 (x.2.2.2.2.2.2.2.2.2.2.2.2.2.2.2.2.2.2.2) (y.2.2) ∧ (∀ j, j < p → x.2.2.2.2.2.2.2.2.2.2.2.2.2.2.2.2.2.2.1 j = order j ∧ y.2.1 j = order14 j) ∧ ((¬ b14 = -1 ∨ S + 1 = 2 ^ p) → ¬ y.1 = -1))) := by
  intro d
  induction d with
  | zero =>
    intros
    omega
  | succ d ih =>
    intro p S o b1 b14 order best order14 row14 q1 q2 q3 q4 q5 q6 q7 q8 q9 x0 a1 a2 a3 a4 a5 a6 a7 hpN hd hS ho ho14 hR
    have hm : mxs (fun j => T j (o j)) p ≤ 140 := mxs_le (fun j hj => (hT j (o j) (by omega) (ho j (by omega)).2).1)
    have hj : (∃ B : Nat, b1 = nI B ∧ mxs (fun j => T j (o j)) p < B ∧ B ≤ 1000000000) → Ok (fb1_orders (fG_X1_orders d) (nI p) (nI S) y (nI N) b1 (g 306) (g 307) (g 309) (g 313) q1 q2 q3 q4 q5 q6 q7 q8 q9 x0 a1 a2 a3 a4 a5 a6 a7 asked order best men (IM 1201)) (fun x => Ok (f14_tryOrder_j17 (fG_X14_tryOrder d) (nI p) (nI S) (nI (mxs (fun j => T j (o j)) p)) b14 (nI N) w order14 asked14 row14) (fun y => OrR N x.1 y.1 (x.2.2.2.2.2.2.2.2.2.2.2.2.2.2.2.2.2.2.2) (y.2.2) ∧ (∀ j, j < p → x.2.2.2.2.2.2.2.2.2.2.2.2.2.2.2.2.2.2.1 j = order j ∧ y.2.1 j = order14 j) ∧ ((¬ b14 = -1 ∨ S + 1 = 2 ^ p) → ¬ y.1 = -1))) := by
      rintro ⟨B, hB, hmB, hB9⟩
      unfold fb1_orders f14_tryOrder_j17
      by_cases hp : p = N
      · subst hp
        rw [if_pos rfl, if_pos rfl, g7]
        obtain ⟨rr, err, c1, c2⟩ := rowBegin_7 (N := p) (P := P) (wat := 0) (x2 := order) hN7 q1 q2 q3 q4 q5 q6 q7 q8 q9 a1 a2 a3 a4 a5 a6 a7
        have hper := per_is hT (by omega) (a := rr.2.2.2.2.2.2.2.2.2.1) (o := o) (fun k hk => by rw [c2 k hk]; exact ho k hk)
        rw [err, bind_is, c1, hper, bind_is, hB, if_pos (nI_lt hmB (by omega)), bind_is, gd_t (cp_n hN7 hN7 (by omega)), lt_is]
        refine ok_i (ok_b (Q := fun (y : Int32 × (Nat → Int32) × (Nat → Int32)) => y.1 = nI (mxs (fun j => T j (o j)) p) ∧ y.2.1 = order14 ∧ ∀ j, j < p → y.2.2 j = order14 j) ?_ ?_)
        · refine for_ok (fun i (x : Nat → Int32) => (nI i, x)) (fun i x => ∀ j, j < i → x j = order14 j) p (by omega) (fun j h => absurd h (Nat.not_lt_zero _)) ?_ ?_
          · intro i x hi hI
            have hic : (nI i).toNatClampNeg = i := nI_clamp (by omega)
            dsimp only
            unfold f14_tryOrder_s19
            rw [if_neg (nI_ge hi (by omega))]
            simp only [gd_t (inb_nI (show i < 7 by omega) (by decide)), lt_is, hic, nI_1]
            refine ok_i ⟨_, rfl, fun k hk => ?_⟩
            by_cases e : k = i
            · subst e; rw [pk_us]
            · rw [pk_un e]; exact hI k (by omega)
          · intro x hI
            dsimp only
            unfold f14_tryOrder_s19
            rw [if_pos (nI_le (Nat.le_refl _) (by omega))]
            exact ok_i ⟨_, rfl, rfl, rfl, hI⟩
        · rintro ⟨y1, y2, y3⟩ ⟨f1, f2, f3⟩
          dsimp only at f1 f2 f3
          subst f1 f2
          refine ok_i ⟨Or.inr ⟨_, hm, rfl, rfl, fun j hj => ?_⟩, fun j hj => ⟨rfl, rfl⟩, fun _ => nI_nm1 (by omega)⟩
          dsimp only
          rw [cpy_at (by omega) hj, f3 j hj, ho14 j hj, (ho j hj).1]
      · rw [if_neg (fun h => hp ((nI_eq (by omega) (by omega)).mp h)), if_neg (fun h => hp ((nI_eq (by omega) (by omega)).mp h))]
        refine ok_b2 (S := fun (x : Int32 × Int32 × Int32 × Int32 × Int32 × Int32 × Int32 × Int32 × Int32 × Int32 × (Option Nat) × (Nat → Int32) × (Nat → Int32) × (Nat → Int32) × (Nat → Int32) × (Nat → Int32) × (Nat → Int32) × (Nat → Int32) × (Nat → Int32) × (Nat → Int32)) (y : Int32 × (Nat → Int32) × (Nat → Int32)) => OrR N x.1 y.1 (x.2.2.2.2.2.2.2.2.2.2.2.2.2.2.2.2.2.2.2) (y.2.2) ∧ (∀ j, j < p → x.2.2.2.2.2.2.2.2.2.2.2.2.2.2.2.2.2.2.1 j = order j ∧ y.2.1 j = order14 j) ∧ ((¬ b14 = -1 ∨ S + 1 = 2 ^ p) → ¬ y.1 = -1)) ?_ (fun x y h => ok_i (ok_i h))
        refine for2_ok (fun i (x : Int32 × Int32 × Int32 × Int32 × Int32 × Int32 × Int32 × Int32 × Int32 × Int32 × (Option Nat) × (Nat → Int32) × (Nat → Int32) × (Nat → Int32) × (Nat → Int32) × (Nat → Int32) × (Nat → Int32) × (Nat → Int32) × (Nat → Int32) × (Nat → Int32)) => (nI i, x)) (fun i (y : Int32 × (Nat → Int32) × (Nat → Int32)) => (nI i, y)) (fun i x y => OrR N x.1 y.1 (x.2.2.2.2.2.2.2.2.2.2.2.2.2.2.2.2.2.2.2) (y.2.2) ∧ (∀ j, j < p → x.2.2.2.2.2.2.2.2.2.2.2.2.2.2.2.2.2.2.1 j = order j ∧ y.2.1 j = order14 j) ∧ ((¬ b14 = -1 ∨ S + 1 = 2 ^ p ∧ p < i) → ¬ y.1 = -1)) N (by omega) ⟨hR, fun j hj => ⟨rfl, rfl⟩, fun h => h.elim id (fun h => absurd h.2 (Nat.not_lt_zero _))⟩ ?_ ?_
        · rintro k x ⟨y1, y2, y3⟩ hk ⟨e1, e3, e4⟩
          dsimp only at e1 e3 e4 ⊢
          unfold f1_orders_s2 f14_tryOrder_s2
          rw [if_neg (nI_ge hk (by omega)), lt_is, lt_is, if_neg (nI_ge hk (by omega)), has_is (by omega) (by omega), bind_is]
          by_cases hb2 : S.testBit k = true
          · rw [if_pos ((bit_is (by omega) (by omega)).mpr hb2), if_pos hb2, if_neg (by decide)]
            unfold f1_orders_j115 f14_tryOrder_j140
            rw [lt_is, lt_is, nI_1]
            refine ok_i (ok_i ⟨_, _, rfl, rfl, e1, e3, fun h => e4 (h.imp id (fun h => ⟨h.1, ?_⟩))⟩)
            have hSp : S = 2 ^ p - 1 := by omega
            rw [hSp, Nat.testBit_two_pow_sub_one, decide_eq_true_eq] at hb2
            omega
          · rw [if_neg (fun h => hb2 ((bit_is (by omega) (by omega)).mp h)), if_neg hb2, if_pos rfl]
            have hkc : (nI k).toNatClampNeg = k := nI_clamp (by omega)
            have hpc : (nI p).toNatClampNeg = p := nI_clamp (by omega)
            obtain ⟨t1, t2, -⟩ := hT p (av k) (by omega) (ha k hk).2
            simp only [gd_t (inb_nI (show k < 12 by omega) (by decide)), gd_t (inb_nI (show k < 7 by omega) (by decide)), gd_t (inb_nI (show p < 7 by omega) (by decide)), lt_is, hkc, hpc, nI_1, put_is (show k < 31 by omega), ha14 k hk, t2, bind_is]
            obtain ⟨i1, i2, i3⟩ := od_ih (T := T) (order := x.2.2.2.2.2.2.2.2.2.2.2.2.2.2.2.2.2.2.1) (p := p) (o := o) (M := M) ha (fun j hj => by rw [(e3 j hj).1]; exact ho j hj) hk
            have hfin : Ok ((fG_X1_orders d (nI (p + 1)) (nI (S ||| 2 ^ k)) y (nI N) x.1 (g 306) (g 307) (g 309) (g 313) x.2.1 x.2.2.1 x.2.2.2.1 x.2.2.2.2.1 x.2.2.2.2.2.1 x.2.2.2.2.2.2.1 x.2.2.2.2.2.2.2.1 x.2.2.2.2.2.2.2.2.1 x.2.2.2.2.2.2.2.2.2.1 x.2.2.2.2.2.2.2.2.2.2.1 x.2.2.2.2.2.2.2.2.2.2.2.1 x.2.2.2.2.2.2.2.2.2.2.2.2.1 x.2.2.2.2.2.2.2.2.2.2.2.2.2.1 x.2.2.2.2.2.2.2.2.2.2.2.2.2.2.1 x.2.2.2.2.2.2.2.2.2.2.2.2.2.2.2.1 x.2.2.2.2.2.2.2.2.2.2.2.2.2.2.2.2.1 x.2.2.2.2.2.2.2.2.2.2.2.2.2.2.2.2.2.1 asked (upd (x.2.2.2.2.2.2.2.2.2.2.2.2.2.2.2.2.2.2.1) p (asked k)) (x.2.2.2.2.2.2.2.2.2.2.2.2.2.2.2.2.2.2.2) men (IM 1201)).bind fun rr15 => f1_orders_j115 (nI k) rr15.1 rr15.2.1 rr15.2.2.1 rr15.2.2.2.1 rr15.2.2.2.2.1 rr15.2.2.2.2.2.1 rr15.2.2.2.2.2.2.1 rr15.2.2.2.2.2.2.2.1 rr15.2.2.2.2.2.2.2.2.1 rr15.2.2.2.2.2.2.2.2.2.1 rr15.2.2.2.2.2.2.2.2.2.2.1 rr15.2.2.2.2.2.2.2.2.2.2.2.1 rr15.2.2.2.2.2.2.2.2.2.2.2.2.1 rr15.2.2.2.2.2.2.2.2.2.2.2.2.2.1 rr15.2.2.2.2.2.2.2.2.2.2.2.2.2.2.1 rr15.2.2.2.2.2.2.2.2.2.2.2.2.2.2.2.1 rr15.2.2.2.2.2.2.2.2.2.2.2.2.2.2.2.2.1 rr15.2.2.2.2.2.2.2.2.2.2.2.2.2.2.2.2.2.1 rr15.2.2.2.2.2.2.2.2.2.2.2.2.2.2.2.2.2.2.1 rr15.2.2.2.2.2.2.2.2.2.2.2.2.2.2.2.2.2.2.2) (fun q => Ok (f14_tryOrder_j137 (fG_X14_tryOrder d) (nI N) w asked14 (nI k) y1 y3 (upd y2 p (nI (av k))) (nI (p + 1)) (nI (S ||| 2 ^ k)) (nI (mxs (fun j => T j (if j = p then av k else o j)) (p + 1)))) (fun q2 => ∃ x' y', q = .inl (nI (k + 1), x') ∧ q2 = .inl (nI (k + 1), y') ∧ OrR N x'.1 y'.1 (x'.2.2.2.2.2.2.2.2.2.2.2.2.2.2.2.2.2.2.2) (y'.2.2) ∧ (∀ j, j < p → x'.2.2.2.2.2.2.2.2.2.2.2.2.2.2.2.2.2.2.1 j = order j ∧ y'.2.1 j = order14 j) ∧ ((¬ b14 = -1 ∨ S + 1 = 2 ^ p ∧ p < k + 1) → ¬ y'.1 = -1))) := by
              unfold f14_tryOrder_j137
              refine ok_b2 (ih (p + 1) (S ||| 2 ^ k) (fun j => if j = p then av k else o j) _ _ _ _ _ _ _ _ _ _ _ _ _ _ _ _ _ _ _ _ _ _ _ (by omega) (by omega) (or_lt7 hS (by omega)) i1 (fun j hj => ?_) e1) ?_
              · by_cases q : j = p
                · subst q
                  rw [pk_us, if_pos rfl]
                · rw [pk_un q, if_neg q, (e3 j (by omega)).2, ho14 j (by omega)]
              · rintro x' y' ⟨f1, f3, f4⟩
                unfold f1_orders_j115 f14_tryOrder_j140
                rw [lt_is, lt_is, nI_1]
                refine ok_i (ok_i ⟨_, _, rfl, rfl, f1, fun j hj => ?_, fun h => f4 ?_⟩)
                · have := f3 j (by omega)
                  rw [pk_un (by omega), pk_un (by omega)] at this
                  exact ⟨this.1.trans (e3 j hj).1, this.2.trans (e3 j hj).2⟩
                · rcases h with h | ⟨h, hpk⟩
                  · exact Or.inl (e4 (Or.inl h))
                  · by_cases q : p = k
                    · subst q
                      have hSp : S = 2 ^ p - 1 := by omega
                      subst hSp
                      exact Or.inr (bits_up (show p < 7 by omega))
                    · exact Or.inl (e4 (Or.inr ⟨h, by omega⟩))
            by_cases q : T p (av k) ≤ mxs (fun j => T j (o j)) p
            · rw [if_pos (nI_le q (by omega))]
              rw [i3, if_pos q] at hfin
              exact hfin
            · rw [if_neg (nI_ge (by omega) (by omega))]
              rw [i3, if_neg q] at hfin
              exact hfin
        · rintro x ⟨y1, y2, y3⟩ ⟨h1, h2, h3⟩
          dsimp only
          unfold f1_orders_s2 f14_tryOrder_s2
          rw [if_pos (nI_le (Nat.le_refl _) (by omega)), if_pos (nI_le (Nat.le_refl _) (by omega))]
          exact ok_i (ok_i ⟨_, _, rfl, rfl, h1, h2, fun h => h3 (h.imp id (fun h => ⟨h, by omega⟩))⟩)
    show Ok (fb1_orders (fG_X1_orders d) (nI p) (nI S) y (nI N) b1 (g 306) (g 307) (g 309) (g 313) q1 q2 q3 q4 q5 q6 q7 q8 q9 x0 a1 a2 a3 a4 a5 a6 a7 asked order best men (IM 1201)) (fun x => Ok (fb14_tryOrder (fG_X14_tryOrder d) (nI p) (nI S) (nI (mxs (fun j => T j (o j)) p)) b14 (nI N) w order14 asked14 row14) _)
    unfold fb14_tryOrder
    rcases hR with ⟨eb1, eb14⟩ | ⟨b, hb, eb1, eb14, hrow⟩
    · rw [if_pos eb14]
      exact hj ⟨1000000000, eb1, by omega, Nat.le_refl _⟩
    · have hn1 : ¬ b14 = -1 := by
        rw [eb14]
        exact fun h => absurd (h ▸ nI_pos (show b < 2 ^ 31 by omega)) (by decide)
      rw [if_neg hn1]
      by_cases q : b ≤ mxs (fun j => T j (o j)) p
      · obtain ⟨x, ex, f1, f2, f3⟩ := ord_prune hT hN7 g7 ha y (d + 1) p S b o order best q1 q2 q3 q4 q5 q6 q7 q8 q9 x0 a1 a2 a3 a4 a5 a6 a7 hpN hd hS ho q
        subst eb1
        refine ok_eq ex ?_
        rw [if_neg (by rw [eb14]; exact nI_nlt q (by omega))]
        exact ok_i ⟨Or.inr ⟨b, hb, f1, eb14, by rw [f2]; exact hrow⟩, fun j hj => ⟨f3 j hj, rfl⟩, fun _ => hn1⟩
      · rw [if_pos (by rw [eb14]; exact nI_lt (by omega) (by omega))]
        exact hj ⟨b, eb1, by omega, by omega⟩
def ins (v : Nat) : Nat → (Nat → Nat) → Nat → Nat
  | 0, A => fun k => if k = 0 then v else A k
  | j + 1, A => if A j ≤ v then (fun k => if k = j + 1 then v else A k) else ins v j (fun k => if k = j + 1 then A j else A k)
def srt (b : Nat → Nat) : Nat → Nat → Nat
  | 0 => fun _ => 0
  | i + 1 => ins (b i) i (srt b i)
theorem ins_lt {M v w : Nat} (hv : v < M) : ∀ (j : Nat) (A : Nat → Nat), j ≤ w → (∀ k, k ≤ w → ¬ k = j → A k < M) → ∀ k, k ≤ w → ins v j A k < M := by
  intro j
  induction j with
  | zero =>
    intro A hj hA k hk
    show (if k = 0 then v else A k) < M
    by_cases q : k = 0
    · rw [if_pos q]; exact hv
    · rw [if_neg q]; exact hA k hk q
  | succ j ih =>
    intro A hj hA k hk
    show (if A j ≤ v then (fun k => if k = j + 1 then v else A k) else ins v j (fun k => if k = j + 1 then A j else A k)) k < M
    by_cases q : A j ≤ v
    · rw [if_pos q]
      by_cases r : k = j + 1
      · rw [if_pos r]; exact hv
      · rw [if_neg r]; exact hA k hk r
    · rw [if_neg q]
      refine ih _ (by omega) (fun k hk hkj => ?_) k hk
      by_cases r : k = j + 1
      · rw [if_pos r]; exact hA j (by omega) (by omega)
      · rw [if_neg r]; exact hA k hk r
theorem srt_lt {M n : Nat} {b : Nat → Nat} (hb : ∀ k, k < n → b k < M) : ∀ i, i ≤ n → ∀ k, k < i → srt b i k < M := by
  intro i
  induction i with
  | zero => intro _ k hk; omega
  | succ i ih =>
    intro hi k hk
    exact ins_lt (w := i) (hb i (by omega)) i (srt b i) (Nat.le_refl _) (fun k hk hki => ih (by omega) k (by omega)) k (by omega)
theorem ins_1 {w v : Nat} {X : Nat → Int32} {A : Nat → Nat} (hw : w < 12) (hv : v < 256) (hX : ∀ k, k < w → X k = nI (A k) ∧ A k < 256) : Ok (whl (fun (s9 : Int32 × (Nat → Int32)) => f1_best_s9 (nI v) s9.1 s9.2) FU (nI w, X)) (fun r => ∃ j, j ≤ w ∧ r.1 = nI j ∧ (∀ k, k ≤ w → upd r.2 j (nI v) k = nI (ins v w A k)) ∧ ∀ k, w < k → r.2 k = X k) := by
  refine ok_fu (fun j s => ∃ B : Nat → Nat, j ≤ w ∧ s.1 = nI j ∧ (∀ k, k ≤ w → ¬ k = j → s.2 k = nI (B k) ∧ B k < 256) ∧ ins v j B = ins v w A ∧ ∀ k, w < k → s.2 k = X k) (k := w) (by omega) ⟨A, Nat.le_refl _, rfl, fun k hk hkw => hX k (by omega), rfl, fun k hk => rfl⟩ ?_
  rintro j ⟨s1, s2⟩ ⟨B, hj, e1, e2, e3, e4⟩
  dsimp only at e1 e2 e4 ⊢
  subst e1
  unfold f1_best_s9
  cases j with
  | zero =>
    rw [if_pos (show nI 0 ≤ 0 by decide)]
    refine ok_i ⟨0, hj, rfl, fun k hk => ?_, e4⟩
    rw [← e3]
    show upd s2 0 (nI v) k = nI (if k = 0 then v else B k)
    by_cases q : k = 0
    · subst q; rw [pk_us, if_pos rfl]
    · rw [pk_un q, if_neg q]; exact (e2 k hk q).1
  | succ j =>
    have hjc : (nI j).toNatClampNeg = j := nI_clamp (by omega)
    have hjc1 : (nI (j + 1)).toNatClampNeg = j + 1 := nI_clamp (by omega)
    obtain ⟨h1, h2⟩ := e2 j (by omega) (by omega)
    have e3' : (if B j ≤ v then (fun k => if k = j + 1 then v else B k) else ins v j (fun k => if k = j + 1 then B j else B k)) = ins v w A := e3
    rw [if_neg (nI_nle (by omega) (by omega))]
    simp only [lt_is, nI_pred, nI_m1, gd_t (inb_nI (show j < 12 by omega) (by decide)), gd_t (inb_nI (show j + 1 < 12 by omega) (by decide)), hjc, hjc1, h1]
    by_cases q : B j ≤ v
    · rw [if_pos (nI_le q (by omega))]
      rw [if_pos q] at e3'
      refine ok_i ⟨j + 1, hj, rfl, fun k hk => ?_, e4⟩
      rw [← e3']
      dsimp only
      by_cases r : k = j + 1
      · subst r; rw [pk_us, if_pos rfl]
      · rw [pk_un r, if_neg r]; exact (e2 k hk r).1
    · rw [if_neg (nI_ge (by omega) (by omega))]
      rw [if_neg q] at e3'
      refine ok_i ⟨j, by omega, _, by omega, rfl, fun k hk hkj => ?_, e3', fun k hk => ?_⟩
      · dsimp only
        by_cases r : k = j + 1
        · subst r; rw [pk_us, if_pos rfl]; exact ⟨rfl, h2⟩
        · rw [pk_un r, if_neg r]; exact e2 k hk r
      · dsimp only
        rw [pk_un (by omega)]
        exact e4 k hk
theorem ins_14 {w v : Nat} {X team now : Nat → Int32} {q1 q2 q3 q4 : Int32} {A : Nat → Nat} (hw : w < 7) (ht : team w = nI v) (hv : v < 256) (hX : ∀ k, k < w → X k = nI (A k) ∧ A k < 256) : Ok (whl (fun (s13 : Int32 × (Nat → Int32)) => f14_best_s13 (q1, q2, q3, q4, now, team) (nI w) s13.1 s13.2) FU (nI w, X)) (fun r => ∃ j, j ≤ w ∧ r.1 = nI j ∧ (∀ k, k ≤ w → upd r.2 j (nI v) k = nI (ins v w A k)) ∧ ∀ k, w < k → r.2 k = X k) := by
  refine ok_fu (fun j s => ∃ B : Nat → Nat, j ≤ w ∧ s.1 = nI j ∧ (∀ k, k ≤ w → ¬ k = j → s.2 k = nI (B k) ∧ B k < 256) ∧ ins v j B = ins v w A ∧ ∀ k, w < k → s.2 k = X k) (k := w) (by omega) ⟨A, Nat.le_refl _, rfl, fun k hk hkw => hX k (by omega), rfl, fun k hk => rfl⟩ ?_
  rintro j ⟨s1, s2⟩ ⟨B, hj, e1, e2, e3, e4⟩
  dsimp only at e1 e2 e4 ⊢
  subst e1
  unfold f14_best_s13
  cases j with
  | zero =>
    rw [if_pos (show nI 0 ≤ 0 by decide)]
    refine ok_i ⟨0, hj, rfl, fun k hk => ?_, e4⟩
    rw [← e3]
    show upd s2 0 (nI v) k = nI (if k = 0 then v else B k)
    by_cases q : k = 0
    · subst q; rw [pk_us, if_pos rfl]
    · rw [pk_un q, if_neg q]; exact (e2 k hk q).1
  | succ j =>
    have hwc : (nI w).toNatClampNeg = w := nI_clamp (by omega)
    have hjc : (nI j).toNatClampNeg = j := nI_clamp (by omega)
    have hjc1 : (nI (j + 1)).toNatClampNeg = j + 1 := nI_clamp (by omega)
    obtain ⟨h1, h2⟩ := e2 j (by omega) (by omega)
    have e3' : (if B j ≤ v then (fun k => if k = j + 1 then v else B k) else ins v j (fun k => if k = j + 1 then B j else B k)) = ins v w A := e3
    rw [if_neg (nI_nle (by omega) (by omega))]
    simp only [lt_is, nI_pred, nI_m1, gd_t (inb_nI (show w < 12 by omega) (by decide)), gd_t (inb_nI (show j < 7 by omega) (by decide)), gd_t (inb_nI (show j + 1 < 7 by omega) (by decide)), hjc, hjc1, hwc, h1, ht]
    by_cases q : B j ≤ v
    · rw [if_pos (nI_le q (by omega))]
      rw [if_pos q] at e3'
      refine ok_i ⟨j + 1, hj, rfl, fun k hk => ?_, e4⟩
      rw [← e3']
      dsimp only
      by_cases r : k = j + 1
      · subst r; rw [pk_us, if_pos rfl]
      · rw [pk_un r, if_neg r]; exact (e2 k hk r).1
    · rw [if_neg (nI_ge (by omega) (by omega))]
      rw [if_neg q] at e3'
      refine ok_i ⟨j, by omega, _, by omega, rfl, fun k hk hkj => ?_, e3', fun k hk => ?_⟩
      · dsimp only
        by_cases r : k = j + 1
        · subst r; rw [pk_us, if_pos rfl]; exact ⟨rfl, h2⟩
        · rw [pk_un r, if_neg r]; exact e2 k hk r
      · dsimp only
        rw [pk_un (by omega)]
        exact e4 k hk
