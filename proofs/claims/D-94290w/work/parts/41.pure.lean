/-! the plain law: a calculus for the pure functions -/
set_option maxRecDepth 100000
def Ok {α : Type} (o : Option α) (P : α → Prop) : Prop := ∃ x, o = some x ∧ P x
section OK
variable {α β γ δ : Type} {P : α → Prop} {Q : β → Prop} {c : Prop}
theorem ok_i {x : α} (h : P x) : Ok (some x) P := ⟨x, rfl, h⟩
theorem gd_t {x : Option α} [Decidable c] (h : c) : gd c x = x := if_pos h
theorem ok_gd [Decidable c] {x : Option α} (h : c) (k : Ok x P) : Ok (gd c x) P := by
  unfold gd
  rw [if_pos h]
  exact k
theorem ok_gdp {x : Option α} (h : c) (k : Ok x P) : Ok (gdp c x) P := by
  rw [gdp_t h]
  exact k
theorem ok_lt {x : β} {f : β → Option α} (k : Ok (f x) P) : Ok (lt x f) P := k
theorem ok_if [Decidable c] {a b : Option α} (k1 : c → Ok a P) (k2 : ¬ c → Ok b P) : Ok (if c then a else b) P := by
  by_cases h : c
  · rw [if_pos h]; exact k1 h
  · rw [if_neg h]; exact k2 h
theorem ok_t [Decidable c] {a b : Option α} (h : c) (k : Ok a P) : Ok (if c then a else b) P := by rw [if_pos h]; exact k
theorem ok_f [Decidable c] {a b : Option α} (h : ¬ c) (k : Ok b P) : Ok (if c then a else b) P := by rw [if_neg h]; exact k
theorem ok_b {o : Option β} {f : β → Option α} (h : Ok o Q) (k : ∀ x, Q x → Ok (f x) P) : Ok (o.bind f) P := by
  obtain ⟨x, rfl, hx⟩ := h
  exact k x hx
theorem ok_e {o : Option β} {f : β → Option α} {x : β} (h : o = some x) (k : Ok (f x) P) : Ok (o.bind f) P := by
  subst h
  exact k
theorem ok_w {P' : α → Prop} {o : Option α} (h : Ok o P') (k : ∀ x, P' x → P x) : Ok o P := by
  obtain ⟨x, e, hx⟩ := h
  exact ⟨x, e, k x hx⟩
theorem ok_sw {R : α → β → Prop} {o : Option α} {q : Option β} (h : Ok q (fun y => Ok o (fun x => R x y))) : Ok o (fun x => Ok q (R x)) := by
  obtain ⟨y, ey, x, ex, h⟩ := h
  exact ⟨x, ex, y, ey, h⟩
/-- two calls, one of each side -/
theorem ok_b2 {o : Option α} {q : Option β} {S : α → β → Prop} {f : α → Option γ} {g : β → Option δ} {R : γ → δ → Prop} (h : Ok o (fun x => Ok q (S x))) (k : ∀ x y, S x y → Ok (f x) (fun u => Ok (g y) (R u))) : Ok (o.bind f) (fun u => Ok (q.bind g) (R u)) := by
  obtain ⟨x, rfl, y, rfl, h⟩ := h
  exact k x y h
theorem ok_w2 {o : Option α} {q : Option β} {S R : α → β → Prop} (h : Ok o (fun x => Ok q (S x))) (k : ∀ x y, S x y → R x y) : Ok o (fun x => Ok q (R x)) := by
  obtain ⟨x, rfl, y, rfl, h⟩ := h
  exact ⟨x, rfl, y, rfl, k x y h⟩
theorem whl_s {σ ρ : Type} {step : σ → Option (σ ⊕ ρ)} {n : Nat} {s : σ} : whl step (n + 1) s = (step s).bind (fun o => match o with | .inl s' => whl step n s' | .inr r => some r) := by
  show (match step s with | none => none | some (.inl s') => whl step n s' | some (.inr r) => some r) = _
  cases step s with
  | none => rfl
  | some o => cases o <;> rfl
theorem FU_s (k : Nat) (h : k < 100000) : ∃ m, FU = m + k := ⟨FU - k, by have := FU_ge; omega⟩
/-- a loop: I k s: at s, at most k rounds are left -/
theorem ok_whl {σ ρ : Type} {step : σ → Option (σ ⊕ ρ)} {P : ρ → Prop} (I : Nat → σ → Prop) (hs : ∀ k s, I k s → Ok (step s) (fun o => match o with | .inl s' => ∃ k', k' < k ∧ I k' s' | .inr r => P r)) : ∀ (n k : Nat) (s : σ), k < n → I k s → Ok (whl step n s) P := by
  intro n
  induction n with
  | zero => intro k s h; exact absurd h (Nat.not_lt_zero _)
  | succ n ih =>
    intro k s hk hI
    obtain ⟨o, e, h⟩ := hs k s hI
    rw [whl_s, e]
    cases o with
    | inl s' =>
      obtain ⟨k', h1, h2⟩ := h
      exact ih k' s' (by omega) h2
    | inr r => exact ⟨r, rfl, h⟩
theorem ok_fu {σ ρ : Type} {step : σ → Option (σ ⊕ ρ)} {P : ρ → Prop} (I : Nat → σ → Prop) {k : Nat} {s : σ} (hk : k < 100000) (hI : I k s) (hs : ∀ k s, I k s → Ok (step s) (fun o => match o with | .inl s' => ∃ k', k' < k ∧ I k' s' | .inr r => P r)) : Ok (whl step FU s) P := ok_whl I hs FU k s (Nat.lt_of_lt_of_le hk FU_ge) hI
/-- two loops in step -/
theorem ok_whl2 {σ ρ τ κ : Type} {s1 : σ → Option (σ ⊕ ρ)} {s2 : τ → Option (τ ⊕ κ)} {R : ρ → κ → Prop} (I : Nat → σ → τ → Prop) (hs : ∀ k s t, I k s t → Ok (s1 s) (fun o => Ok (s2 t) (fun q => match o, q with | .inl s', .inl t' => ∃ k', k' < k ∧ I k' s' t' | .inr r, .inr q => R r q | _, _ => False))) : ∀ (n m k : Nat) (s : σ) (t : τ), k < n → k < m → I k s t → Ok (whl s1 n s) (fun x => Ok (whl s2 m t) (R x)) := by
  intro n
  induction n with
  | zero => intro m k s t h; exact absurd h (Nat.not_lt_zero _)
  | succ n ih =>
    intro m k s t hk hm hI
    cases m with
    | zero => exact absurd hm (Nat.not_lt_zero _)
    | succ m =>
      obtain ⟨o, e, q, e2, h⟩ := hs k s t hI
      rw [whl_s, whl_s, e, e2]
      cases o with
      | inl s' =>
        cases q with
        | inl t' =>
          obtain ⟨k', h1, h2⟩ := h
          exact ih m k' s' t' (by omega) (by omega) h2
        | inr r => exact h.elim
      | inr r =>
        cases q with
        | inl t' => exact h.elim
        | inr r' => exact ⟨r, rfl, r', rfl, h⟩
theorem ok_fu2 {σ ρ τ κ : Type} {s1 : σ → Option (σ ⊕ ρ)} {s2 : τ → Option (τ ⊕ κ)} {R : ρ → κ → Prop} (I : Nat → σ → τ → Prop) {k : Nat} {s : σ} {t : τ} (hk : k < 100000) (hI : I k s t) (hs : ∀ k s t, I k s t → Ok (s1 s) (fun o => Ok (s2 t) (fun q => match o, q with | .inl s', .inl t' => ∃ k', k' < k ∧ I k' s' t' | .inr r, .inr q => R r q | _, _ => False))) : Ok (whl s1 FU s) (fun x => Ok (whl s2 FU t) (R x)) := ok_whl2 I hs FU FU k s t (Nat.lt_of_lt_of_le hk FU_ge) (Nat.lt_of_lt_of_le hk FU_ge) hI
end OK
/-! numbers -/
theorem inb_nI {k n : Nat} (h : k < n) (hn : n < 2 ^ 31) : inb (nI k) n := nI_in h hn
theorem nIz : (0 : Int32) = nI 0 := rfl
theorem inb_of {x : Int32} {n : Nat} (h : inb x n) (hn : n < 2 ^ 31) : ∃ j : Nat, j < n ∧ x = nI j := vp_in_of h hn
theorem nI_rng {x : Int32} {n : Nat} (hn : n < 2 ^ 31) (h : ¬ x < 0) (h5 : x ≤ nI n) : ∃ j : Nat, j ≤ n ∧ x = nI j := nI_of2 (nI_toInt hn) h h5
theorem nlt0 {x : Int32} (h : 0 ≤ x) : ¬ x < 0 := fun h2 => by
  have a := Int32.le_iff_toInt_le.mp h
  have b := Int32.lt_iff_toInt_lt.mp h2
  omega
theorem nle_lt {x y : Int32} (h : ¬ x ≤ y) : y < x := by
  rw [Int32.le_iff_toInt_le] at h
  rw [Int32.lt_iff_toInt_lt]
  omega
theorem nlt_le {x y : Int32} (h : ¬ x < y) : y ≤ x := by
  rw [Int32.lt_iff_toInt_lt] at h
  rw [Int32.le_iff_toInt_le]
  omega
/-- isIn -/
theorem isIn1 (v a b : Int32) : f1_isIn v a b = some (if v < a then 0 else if b < v then 0 else 1) := by
  unfold f1_isIn f1_isIn_j14
  split
  · rfl
  · split <;> rfl
theorem isIn14 (v a b : Int32) : f14_isIn v a b = some (if v < a then 0 else if b < v then 0 else 1) := by
  unfold f14_isIn f14_isIn_j14
  split
  · rfl
  · split <;> rfl
/-- v lies within nI a .. nI b, or isIn says no -/
theorem isIn_c (v : Int32) {a b : Nat} (ha : a < 2 ^ 31) (hb : b < 2 ^ 31) : ((if v < nI a then (0 : Int32) else if nI b < v then 0 else 1) = 0 ∧ ∀ j : Nat, v = nI j → j < 2 ^ 31 → ¬ (a ≤ j ∧ j ≤ b)) ∨ ((if v < nI a then (0 : Int32) else if nI b < v then 0 else 1) = 1 ∧ ∃ j : Nat, a ≤ j ∧ j ≤ b ∧ v = nI j) := by
  by_cases h1 : v < nI a
  · left
    rw [if_pos h1]
    refine ⟨rfl, fun j e hj => ?_⟩
    subst e
    have := (nI_ltI hj ha).mp h1
    omega
  · by_cases h2 : nI b < v
    · left
      rw [if_neg h1, if_pos h2]
      refine ⟨rfl, fun j e hj => ?_⟩
      subst e
      have := (nI_ltI hb hj).mp h2
      omega
    · right
      rw [if_neg h1, if_neg h2]
      refine ⟨rfl, ?_⟩
      have h3 := (not_congr Int32.lt_iff_toInt_lt).mp h1
      have h4 := (not_congr Int32.lt_iff_toInt_lt).mp h2
      rw [nI_toInt ha] at h3
      rw [nI_toInt hb] at h4
      have h5 : ¬ v < 0 := by
        intro h
        have := Int32.lt_iff_toInt_lt.mp h
        have e : (0 : Int32).toInt = 0 := rfl
        omega
      obtain ⟨j, hj, e⟩ := nI_of h5
      subst e
      rw [nI_toInt hj] at h3 h4
      exact ⟨j, by omega, by omega, rfl⟩
theorem isIn_cc (v : Int32) {a b : Nat} {A B : Int32} (hA : A = nI a) (hB : B = nI b) (ha : a < 2 ^ 31) (hb : b < 2 ^ 31) : (f1_isIn v A B = some 0 ∧ f14_isIn v A B = some 0 ∧ ∀ j : Nat, v = nI j → j < 2 ^ 31 → ¬ (a ≤ j ∧ j ≤ b)) ∨ (f1_isIn v A B = some 1 ∧ f14_isIn v A B = some 1 ∧ ∃ j : Nat, a ≤ j ∧ j ≤ b ∧ v = nI j) := by
  subst hA hB
  rw [isIn1, isIn14]
  rcases isIn_c v ha hb with ⟨e, h⟩ | ⟨e, h⟩
  · rw [e]; exact Or.inl ⟨rfl, rfl, h⟩
  · rw [e]; exact Or.inr ⟨rfl, rfl, h⟩
/-! the tape -/
def TP (b : Nat → Nat) (t1 t14 : Nat → Int32) : Prop := ∀ i, i < 740 → b i < 256 ∧ t14 i = nI (b i) ∧ t1 i = (nI (b i)).toInt8.toInt32
theorem byte_sh (p : Int32) (k : Nat) (hk : k = 0 ∨ k = 8 ∨ k = 16 ∨ k = 24) : (p >>> (nI k &&& 31)).toInt8 = ((p.toUInt32 >>> ((nI k).toUInt32 &&& Int32.toUInt32 31)).toInt32).toInt8 := by
  apply Int8.toBitVec_inj.1
  rcases hk with rfl | rfl | rfl | rfl <;>
  · apply BitVec.eq_of_getLsbD_eq
    intro i hi
    simp only [nI]
    first
      | (simp [hi]; done)
      | (simp [hi]
         rw [← BitVec.getLsbD_eq_getElem, ← BitVec.getLsbD_eq_getElem, BitVec.getLsbD_signExtend, BitVec.getLsbD_signExtend]
         have h32 : i < 32 := by omega
         rw [if_pos h32, if_pos h32, BitVec.getLsbD_sshiftRight, BitVec.getLsbD_ushiftRight]
         have h1 : ¬ 32 ≤ i := by omega
         simp [h1, show 8 + i < 32 by omega, show 16 + i < 32 by omega, show 24 + i < 32 by omega])
theorem nar8 (x : Int32) : vp_nar .byte (x.toInt8.toInt32) = x.toInt8.toInt32 := by
  unfold vp_nar narrow
  simp
/-- the cut to a byte sees the low byte alone -/
theorem fa_byte_low (x : Int32) : (x &&& 255).toInt8 = x.toInt8 := by
  apply Int8.toBitVec_inj.1
  apply BitVec.eq_of_getLsbD_eq
  intro i hi
  have h2 : (255 : Int32).toBitVec.getLsbD i = true := by
    have : ∀ j : Fin 8, (255 : Int32).toBitVec.getLsbD j.val = true := by decide +kernel
    exact this ⟨i, hi⟩
  have h4 : (x &&& 255).toBitVec.getLsbD i = x.toBitVec.getLsbD i := by
    show (x.toBitVec &&& (255 : Int32).toBitVec).getLsbD i = _
    rw [BitVec.getLsbD_and, h2, Bool.and_true]
  have h3 : i < 32 := by omega
  first
    | (show (((x &&& 255).toBitVec).signExtend 8).getLsbD i = (x.toBitVec.signExtend 8).getLsbD i; rw [BitVec.getLsbD_signExtend, BitVec.getLsbD_signExtend, if_pos h3, if_pos h3, h4])
    | (show (((x &&& 255).toBitVec).setWidth 8).getLsbD i = (x.toBitVec.setWidth 8).getLsbD i; rw [BitVec.getLsbD_setWidth, BitVec.getLsbD_setWidth, h4])
    | (simp [hi, h3, h4]; done)
/-- the low byte of a word: both sides write the same -/
theorem byte_ex (p : Int32) (k : Nat) (hk : k = 0 ∨ k = 8 ∨ k = 16 ∨ k = 24) : ∃ b : Nat, b < 256 ∧ ((p.toUInt32 >>> ((nI k).toUInt32 &&& Int32.toUInt32 31)).toInt32) &&& 255 = nI b ∧ vp_nar .byte ((p >>> (nI k &&& 31)).toInt8.toInt32) = (nI b).toInt8.toInt32 := by
  obtain ⟨b, hb, e⟩ := pk_andE ((p.toUInt32 >>> ((nI k).toUInt32 &&& Int32.toUInt32 31)).toInt32) (m := 255) 8 rfl
  refine ⟨b, hb, e, ?_⟩
  rw [nar8, byte_sh p k hk, ← e]
  exact congrArg Int8.toInt32 (fa_byte_low _).symm
theorem TP.set {b : Nat → Nat} {t1 t14 : Nat → Int32} (h : TP b t1 t14) (k c : Nat) (hc : c < 256) {x1 x14 : Int32} (e14 : x14 = nI c) (e1 : x1 = (nI c).toInt8.toInt32) : TP (fun i => if i = k then c else b i) (upd t1 k x1) (upd t14 k x14) := by
  intro i hi
  unfold upd
  by_cases h2 : i = k
  · simp only [if_pos h2]
    exact ⟨hc, e14, e1⟩
  · simp only [if_neg h2]
    exact h i hi
/-- four bytes are written -/
theorem four_ok {b : Nat → Nat} {t1 t14 : Nat → Int32} (h : TP b t1 t14) (p : Int32) {n : Nat} (hn : n + 4 ≤ 740) : Ok (f1_four p (nI n) t1) (fun x => Ok (f14_come p (nI n) t14) (fun y => x.1 = nI (n + 4) ∧ y.1 = nI (n + 4) ∧ ∃ b, TP b x.2 y.2)) := by
  unfold f1_four f14_come
  refine ok_b2 (S := fun x y => x.1 = nI (n + 4) ∧ y.1 = nI (n + 4) ∧ ∃ b, TP b x.2 y.2) ?_ (fun x y h => ?_)
  · refine ok_fu2 (fun k s t => ∃ j m : Nat, k = j ∧ s.1 = nI (8 * j) - 8 ∧ t.1 = nI (8 * j) - 8 ∧ j ≤ 4 ∧ m + j = n + 4 ∧ s.2.1 = nI m ∧ t.2.1 = nI m ∧ ∃ b, TP b s.2.2 t.2.2) (k := 4) (by decide) ⟨4, n, rfl, rfl, rfl, Nat.le_refl _, rfl, rfl, rfl, b, h⟩ ?_
    rintro k ⟨s1, s2, s3⟩ ⟨t1, t2, t3⟩ ⟨j, m, rfl, e1, e2, hj, hm, e3, e4, b, hb⟩
    dsimp only at e1 e2 e3 e4 hb ⊢
    subst e1 e2 e3 e4
    unfold f1_four_s1 f14_come_s1
    match k, hj with
    | 0, _ =>
      refine ok_t (by decide) (ok_i (ok_t (by decide) (ok_i ?_)))
      exact ⟨by rw [show m = n + 4 by omega], by rw [show m = n + 4 by omega], b, hb⟩
    | k + 1, hj =>
      have e0 : nI (8 * (k + 1)) - 8 = nI (8 * k) := by rw [show (8 : Int32) = nI 8 from rfl, pk_sub (by omega)]; congr 1
      have e9 : nI (8 * k) + (-8 : Int32) = nI (8 * k) - 8 := by rw [Int32.sub_eq_add_neg]
      obtain ⟨c, hc, c1, c2⟩ := byte_ex p (8 * k) (by omega)
      have hk : k = 0 ∨ k = 1 ∨ k = 2 ∨ k = 3 := by omega
      rw [e0]
      have hneg : ¬ nI (8 * k) < 0 := nI_pos (by omega)
      refine ok_f hneg (ok_lt (ok_lt (ok_gd (inb_nI (by omega) (by decide)) (ok_lt (ok_lt (ok_lt (ok_i (ok_f hneg (ok_lt (ok_lt (ok_gd (inb_nI (by omega) (by decide)) (ok_lt (ok_lt (ok_lt (ok_i ?_)))))))))))))))
      refine ⟨k, Nat.lt_succ_self _, k, m + 1, rfl, e9, e9, by omega, by omega, nI_1 m, nI_1 m, _, hb.set _ c hc c1 c2⟩
  · obtain ⟨h1, h2, h3⟩ := h
    exact ok_i (ok_i ⟨h1, h2, h3⟩)
