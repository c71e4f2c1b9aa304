/-! the plain law: aims, the pieces -/
set_option maxRecDepth 100000
/-- the same, either side may leave early -/
theorem ok_gridx {σ τ κ σ2 τ2 κ2 : Type} {s : τ → Option (τ ⊕ κ)} {s2 : τ2 → Option (τ2 ⊕ κ2)} {P : κ → κ2 → Prop} (mk : Nat → σ → τ) (mk2 : Nat → σ2 → τ2) (I : Nat → σ → σ2 → Prop) {C R : Nat} (hC : C ≤ 8) (hR : R ≤ 8) {x : σ} {x2 : σ2} (h0 : I 0 x x2)
    (hs : ∀ r c x x2, r < R → c < C → I (8 * r + c) x x2 → Ok (s (mk (8 * r + c) x)) (fun o => Ok (s2 (mk2 (C * r + c) x2)) (fun q => (∃ y y2, o = .inl (mk (8 * r + c + 1) y) ∧ q = .inl (mk2 (C * r + c + 1) y2) ∧ I (8 * r + c + 1) y y2) ∨ ∃ r r2, o = .inr r ∧ q = .inr r2 ∧ P r r2)))
    (hn : ∀ j x x2, j < 64 → ¬ (j / 8 < R ∧ j % 8 < C) → I j x x2 → Ok (s (mk j x)) (fun o => (∃ y, o = .inl (mk (j + 1) y) ∧ I (j + 1) y x2) ∨ ∃ r, o = .inr r ∧ ∀ k, k ≤ C * R → Ok (s2 (mk2 k x2)) (fun q => ∃ r2, q = .inr r2 ∧ P r r2)))
    (he : ∀ x x2, I 64 x x2 → Ok (s (mk 64 x)) (fun o => Ok (s2 (mk2 (C * R) x2)) (fun q => ∃ r r2, o = .inr r ∧ q = .inr r2 ∧ P r r2))) : Ok (whl s FU (mk 0 x)) (fun r => Ok (whl s2 FU (mk2 0 x2)) (P r)) := by
  have hCR : C * R ≤ 8 * 8 := Nat.mul_le_mul hC hR
  have kle : ∀ j, kk C R j ≤ C * R := by
    intro j
    unfold kk
    by_cases h1 : j / 8 < R
    · rw [if_pos h1]
      have : C * (j / 8) + min (j % 8) C ≤ C * R := by
        have h2 : C * (j / 8) + C ≤ C * R := by
          rw [← Nat.mul_succ]
          exact Nat.mul_le_mul_left C h1
        have := Nat.min_le_right (j % 8) C
        omega
      exact this
    · rw [if_neg h1]
      exact Nat.le_refl _
  have key : ∀ j, j ≤ 64 → (∃ y y2, itr s j (mk 0 x) (mk j y) ∧ itr s2 (kk C R j) (mk2 0 x2) (mk2 (kk C R j) y2) ∧ I j y y2) ∨ Ok (whl s FU (mk 0 x)) (fun r => Ok (whl s2 FU (mk2 0 x2)) (P r)) := by
    intro j
    induction j with
    | zero =>
      rw [kk_0]
      exact fun _ => Or.inl ⟨x, x2, rfl, rfl, h0⟩
    | succ j ih =>
      intro hj
      rcases ih (by omega) with ⟨y, y2, h1, h2, h3⟩ | h
      · by_cases hg : j / 8 < R ∧ j % 8 < C
        · obtain ⟨hr, hc⟩ := hg
          have ej : j = 8 * (j / 8) + j % 8 := by omega
          generalize j / 8 = r at ej hr
          generalize j % 8 = c at ej hc
          subst ej
          obtain ⟨o, eo, q, eq, h⟩ := hs r c y y2 hr hc h3
          have hkl := kle (8 * r + c)
          rw [kk_at hC hr hc] at h2 hkl
          rcases h with ⟨z, z2, rfl, rfl, h4⟩ | ⟨r', r2, rfl, rfl, hP⟩
          · rw [kk_in hC hr hc]
            exact Or.inl ⟨z, z2, itr_snoc h1 eo, itr_snoc h2 eq, h4⟩
          · exact Or.inr ⟨r', itr_FU h1 (by omega) eo, r2, itr_FU h2 (by omega) eq, hP⟩
        · obtain ⟨o, eo, h⟩ := hn j y y2 (by omega) hg h3
          rcases h with ⟨z, rfl, h4⟩ | ⟨r', rfl, h4⟩
          · rw [kk_out hC hg]
            exact Or.inl ⟨z, y2, itr_snoc h1 eo, h2, h4⟩
          · obtain ⟨q, eq, r2, rfl, hP⟩ := h4 _ (kle j)
            have := kle j
            exact Or.inr ⟨r', itr_FU h1 (by omega) eo, r2, itr_FU h2 (by omega) eq, hP⟩
      · exact Or.inr h
  rcases key 64 (Nat.le_refl _) with ⟨y, y2, h1, h2, h3⟩ | h
  · rw [kk_64 hR] at h2
    obtain ⟨o, eo, q, eq, r, r2, rfl, rfl, h4⟩ := he y y2 h3
    exact ⟨r, itr_FU h1 (by decide) eo, r2, itr_FU h2 (by omega) eq, h4⟩
  · exact h
def Lay (n d : Nat) (st f b v : Nat → Int32) : Prop := ∀ k, k < n → st (192 * d + 3 * k) = f k ∧ st (192 * d + 3 * k + 1) = b k ∧ st (192 * d + 3 * k + 2) = v k
theorem keep_ok {C R d : Nat} {w f b v st : Nat → Int32} (w9 : w 9 = nI C) (w10 : w 10 = nI R) (hC : C ≤ 8) (hR : R ≤ 8) (hd : d ≤ 2) : Ok (f14_keepFire (nI d) w f b v st) (fun z => Lay (C * R) d z f b v ∧ ∀ q, q < 192 * d → z q = st q) := by
  have hCR : C * R ≤ 8 * 8 := Nat.mul_le_mul hC hR
  unfold f14_keepFire
  refine ok_b (Q := fun z => Lay (C * R) d z f b v ∧ ∀ q, q < 192 * d → z q = st q) ?_ (fun x h => ok_i h)
  refine for_ok (fun i (x : Nat → Int32) => (nI i, x)) (fun i x => Lay i d x f b v ∧ ∀ q, q < 192 * d → x q = st q) (C * R) (by omega) ⟨fun k h => absurd h (Nat.not_lt_zero _), fun q _ => rfl⟩ ?_ ?_
  · rintro i x hi ⟨h1, h2⟩
    dsimp only
    unfold f14_keepFire_s1
    rw [cells_is w9 w10, bind_is, if_neg (nI_ge hi (by omega))]
    have k0 : (nI i).toNatClampNeg = i := nI_clamp (by omega)
    have k1 : (nI (192 * d + 3 * i)).toNatClampNeg = 192 * d + 3 * i := nI_clamp (by omega)
    have k2 : (nI (192 * d + 3 * i + 1)).toNatClampNeg = 192 * d + 3 * i + 1 := nI_clamp (by omega)
    have k3 : (nI (192 * d + 3 * i + 2)).toNatClampNeg = 192 * d + 3 * i + 2 := nI_clamp (by omega)
    simp only [lt_is, z_192, z_3, z_2, pk_mul, nI_add, nI_1, gd_t (inb_nI (show i < 64 by omega) (by decide)), gd_t (inb_nI (show 192 * d + 3 * i < 576 by omega) (by decide)), gd_t (inb_nI (show 192 * d + 3 * i + 1 < 576 by omega) (by decide)), gd_t (inb_nI (show 192 * d + 3 * i + 2 < 576 by omega) (by decide)), k0, k1, k2, k3]
    refine ok_i ⟨_, rfl, fun k hk => ?_, fun q hq => ?_⟩
    · by_cases e : k = i
      · subst e
        refine ⟨?_, ?_, ?_⟩
        · rw [pk_un (by omega), pk_un (by omega), pk_us]
        · rw [pk_un (by omega), pk_us]
        · rw [pk_us]
      · obtain ⟨a1, a2, a3⟩ := h1 k (by omega)
        refine ⟨?_, ?_, ?_⟩
        · rw [pk_un (by omega), pk_un (by omega), pk_un (by omega)]; exact a1
        · rw [pk_un (by omega), pk_un (by omega), pk_un (by omega)]; exact a2
        · rw [pk_un (by omega), pk_un (by omega), pk_un (by omega)]; exact a3
    · rw [pk_un (by omega), pk_un (by omega), pk_un (by omega)]
      exact h2 q hq
  · rintro x h
    dsimp only
    unfold f14_keepFire_s1
    rw [cells_is w9 w10, bind_is, if_pos (nI_le (Nat.le_refl _) (by omega))]
    exact ok_i ⟨_, rfl, h⟩
theorem bring_ok {C R d : Nat} {w f b v st f0 b0 v0 : Nat → Int32} (w9 : w 9 = nI C) (w10 : w 10 = nI R) (hC : C ≤ 8) (hR : R ≤ 8) (hd : d ≤ 2) (hL : Lay (C * R) d st f0 b0 v0) : Ok (f14_bringFire (nI d) w f b v st) (fun z => ∀ k, k < C * R → z.1 k = f0 k ∧ z.2.1 k = b0 k ∧ z.2.2 k = v0 k) := by
  have hCR : C * R ≤ 8 * 8 := Nat.mul_le_mul hC hR
  unfold f14_bringFire
  refine ok_b (Q := fun z => ∀ k, k < C * R → z.1 k = f0 k ∧ z.2.1 k = b0 k ∧ z.2.2 k = v0 k) ?_ (fun x h => ok_i h)
  refine for_ok (fun i (x : (Nat → Int32) × (Nat → Int32) × (Nat → Int32)) => (nI i, x)) (fun i x => ∀ k, k < i → x.1 k = f0 k ∧ x.2.1 k = b0 k ∧ x.2.2 k = v0 k) (C * R) (by omega) (fun k h => absurd h (Nat.not_lt_zero _)) ?_ ?_
  · rintro i ⟨x1, x2, x3⟩ hi h1
    dsimp only at h1 ⊢
    unfold f14_bringFire_s1
    rw [cells_is w9 w10, bind_is, if_neg (nI_ge hi (by omega))]
    obtain ⟨a1, a2, a3⟩ := hL i hi
    have k0 : (nI i).toNatClampNeg = i := nI_clamp (by omega)
    have k1 : (nI (192 * d + 3 * i)).toNatClampNeg = 192 * d + 3 * i := nI_clamp (by omega)
    have k2 : (nI (192 * d + 3 * i + 1)).toNatClampNeg = 192 * d + 3 * i + 1 := nI_clamp (by omega)
    have k3 : (nI (192 * d + 3 * i + 2)).toNatClampNeg = 192 * d + 3 * i + 2 := nI_clamp (by omega)
    simp only [lt_is, z_192, z_3, z_2, pk_mul, nI_add, nI_1, gd_t (inb_nI (show i < 64 by omega) (by decide)), gd_t (inb_nI (show 192 * d + 3 * i < 576 by omega) (by decide)), gd_t (inb_nI (show 192 * d + 3 * i + 1 < 576 by omega) (by decide)), gd_t (inb_nI (show 192 * d + 3 * i + 2 < 576 by omega) (by decide)), k0, k1, k2, k3, a1, a2, a3]
    refine ok_i ⟨_, rfl, fun k hk => ?_⟩
    dsimp only
    by_cases e : k = i
    · subst e
      rw [pk_us, pk_us, pk_us]
      exact ⟨rfl, rfl, rfl⟩
    · rw [pk_un e, pk_un e, pk_un e]
      exact h1 k (by omega)
  · rintro x h
    dsimp only
    unfold f14_bringFire_s1
    rw [cells_is w9 w10, bind_is, if_pos (nI_le (Nat.le_refl _) (by omega))]
    exact ok_i ⟨_, rfl, h⟩
theorem Gr.swap {C R Z : Nat} {F B V : Nat → Nat → Nat} {f1 v1 b1 f14 v14 b14 f14' v14' b14' : Nat → Int32} (h : Gr C R Z F B V f1 v1 b1 f14 v14 b14) (hC : C ≤ 8) (hR : R ≤ 8) (e : ∀ k, k < C * R → f14' k = f14 k ∧ b14' k = b14 k ∧ v14' k = v14 k) : Gr C R Z F B V f1 v1 b1 f14' v14' b14' := by
  refine ⟨fun r c hr hc => ?_, h.2⟩
  obtain ⟨a1, a2, a3, a4⟩ := h.1 r c hr hc
  obtain ⟨e1, e2, e3⟩ := e (C * r + c) (cell_lt hC hR hr hc).1
  rw [e1, e2, e3]
  exact ⟨a1, a2, a3, a4⟩
theorem Gr.swap1 {C R Z : Nat} {F B V : Nat → Nat → Nat} {f1 v1 b1 f14 v14 b14 f1' v1' b1' : Nat → Int32} (h : Gr C R Z F B V f1 v1 b1 f14 v14 b14) (hC : C ≤ 8) (hR : R ≤ 8) (e : ∀ k, k < 64 → f1' k = f1 k ∧ b1' k = b1 k ∧ v1' k = v1 k) : Gr C R Z F B V f1' v1' b1' f14 v14 b14 := by
  refine ⟨fun r c hr hc => ?_, fun j hj hn => by rw [(e j hj).2.1]; exact h.2 j hj hn⟩
  obtain ⟨a1, a2, a3, a4⟩ := h.1 r c hr hc
  obtain ⟨e1, e2, e3⟩ := e (8 * r + c) (by omega)
  rw [e1, e2, e3]
  exact ⟨a1, a2, a3, a4⟩
theorem be_ok {C R Z : Nat} {F B V : Nat → Nat → Nat} {f1 v1 b1 f14 v14 b14 : Nat → Int32} (h : Gr C R Z F B V f1 v1 b1 f14 v14 b14) (hC : C ≤ 8) (hR : R ≤ 8) (l l2 : Int32) (f2 v2 b2 : Nat → Int32) : Ok (f12_be l l2 f1 v1 b1 f2 v2 b2) (fun x => x.1 = l ∧ Gr C R Z F B V x.2.1 x.2.2.1 x.2.2.2 f14 v14 b14) := by
  unfold f12_be
  have hcp : cp_ok (0 : Int32) (0 : Int32) (64 : Int32) 64 64 := cp_n (n := 64) (Nat.le_refl _) (Nat.le_refl _) (by decide)
  have hat : ∀ (a b : Nat → Int32) k, k < 64 → va_cpy a b (0 : Int32).toNatClampNeg (0 : Int32).toNatClampNeg (64 : Int32).toNatClampNeg k = a k := fun a b k hk => cpy_at (n := 64) (by decide) hk
  rw [gd_t hcp, lt_is, gd_t hcp, lt_is, gd_t hcp, gd_t ?_, lt_is]
  · exact ok_i ⟨rfl, h.swap1 hC hR (fun k hk => ⟨hat _ _ k hk, hat _ _ k hk, hat _ _ k hk⟩)⟩
  · intro j hj
    have hj' : j < 64 := hj
    show zb (b1 (0 + j))
    rw [Nat.zero_add]
    by_cases q : j / 8 < R ∧ j % 8 < C
    · obtain ⟨⟨-, hB, -⟩, -, ⟨e, -⟩, -⟩ := h.1 (j / 8) (j % 8) q.1 q.2
      rw [show 8 * (j / 8) + j % 8 = j by omega] at e
      rw [e]
      rcases hB with hB | ⟨hB, -⟩
      · rw [hB]; decide
      · rw [hB]; decide
    · rw [h.2 j hj' q]
      decide
