/-! the plain law: fireAt -/
set_option maxRecDepth 100000
theorem alen_is {K : gK} {a t n : Nat} (h : K a = some (.inr (t, n))) : alen K a t = some n := by
  unfold alen
  rw [h]
  exact if_pos rfl
theorem Sh.len {K : gK} {X : gX} {a ci : Nat} {rows : List (Nat × Nat × Nat × Nat)} {f d t n : Nat} (k : Nat) (h : Sh K X a ci rows) (e : rows[k]? = some (f, d, t, n)) : X f a = some (a + d) ∧ alen K (a + d) t = some n := ⟨(h.2 k _ e).2, alen_is (h.2 k _ e).1⟩
theorem fireAt_eq {z n : Nat} {adS : Nat → Nat} {K : gK} {I : gI} {J : gJ} {X : gX} {A : gI} {B : gJ} {Q : gX} (hIS : IS z K X Q) (was fc fr : Int32) (cell : Nat → Int32) (hfire : pFire K (I 304) (I 305) (I 38 z) (X 904 (z + 80)) (A (z + 81)) (A (z + 82)) (A (z + 84)) was fc fr cell) (p q r th : Int32) :
    ∃ v : Int32, w1_fireAt z adS z p q r K I J X A B Q n = some (v, K, I, J, X, A, B, Q, n) ∧ f14_fireAt p q r th fc fr was cell = some (v, 0) := by
  have hI := hIS
  obtain ⟨⟨-, -, hL171⟩, ⟨hK7, hX9⟩, ⟨hS16, hX13⟩, ⟨hS60, hX15⟩, ⟨hS85, hX36⟩, ⟨⟨hS92, hS97, hS102, hS107⟩, hQ0, hQ1, hQ2, hQ3⟩, hG, ⟨hK2, hX4⟩, ⟨hK14, hX10, hX507, hX509⟩, ⟨hK15, hX11, hX607, hX609⟩, ⟨hS123, hX50, hX1007, hX1010⟩, ⟨hS80, hX35⟩, ⟨hS114, hX45⟩, ⟨hS38, hX14⟩, ⟨hS65, hX16⟩, hG2, hyards, hseen1, hseen2⟩ := hI
  have hS0 := hIS.1.1
  unfold w1_fireAt f14_fireAt
  rw [gdp_t hS0.1]
  simp only [lt_is]
  rcases hfire with ⟨h0, rfl⟩ | ⟨h1, rfl, y, C, R, hy, hky, hC, hR, e4, e5, rfl, rfl, hcell⟩
  · exact ⟨-1, by rw [if_pos h0], by rw [if_pos rfl]⟩
  · rw [if_neg (by rw [h1]; decide), if_neg (by decide), hX35, bind_is, gdp_t hS80.1, hy, bind_is, gdp_t (hyards y hky), e4, e5]
    obtain ⟨f0, a0⟩ := hS80.len 0 rfl
    obtain ⟨f1, a1⟩ := hS80.len 1 rfl
    obtain ⟨f3, a3⟩ := hS80.len 3 rfl
    rcases isCell_or p q (C := C) (R := R) (by omega) (by omega) with ⟨e, rr, c, hr, hc, rfl, rfl⟩ | ⟨e, hno⟩
    · have hlt := cell_lt hC hR hr hc
      have hin : inb (nI (8 * rr + c)) 64 := inb_nI (by omega) (by decide)
      have hcl : (nI (8 * rr + c)).toNatClampNeg = 8 * rr + c := nI_clamp (by omega)
      obtain ⟨c0, c1, c2⟩ := hcell rr c hr hc
      rw [e, bind_is, if_neg (show ¬ (1 : Int32) = 0 by decide), show (8 : Int32) = nI 8 from rfl, pk_mul, nI_add, if_neg (nI_pos (show c < 2 ^ 31 by omega)), if_neg (nI_ge hc (by omega)), if_neg (nI_pos (show rr < 2 ^ 31 by omega)), if_neg (nI_ge hr (by omega)), pk_mul, nI_add, show (3 : Int32) = nI 3 from rfl, pk_mul, f0, f1, f3]
      simp only [bind_is, a0, a1, a3, gdp_t hin, hcl]
      rcases isIn_cc r (a := 0) (b := 2) (A := 0) (B := 2) rfl rfl (by decide) (by decide) with ⟨u, u', hno⟩ | ⟨u, u', k, -, hk, rfl⟩
      · refine ⟨-1, ?_, by rw [u', bind_is, if_pos rfl]⟩
        rw [if_neg (show ¬ r = 0 from fun h => hno 0 h (by decide) (by decide)), if_neg (show ¬ r = 1 from fun h => hno 1 h (by decide) (by decide)), if_neg (show ¬ r = 2 from fun h => hno 2 h (by decide) (by decide))]
      · have hk3 : (nI (3 * (C * rr + c) + k)).toNatClampNeg = 3 * (C * rr + c) + k := nI_clamp (by omega)
        rw [u', bind_is, if_neg (show ¬ (1 : Int32) = 0 by decide), nI_add, gd_t (inb_nI (by omega) (by decide)), hk3]
        rcases (show k = 0 ∨ k = 1 ∨ k = 2 by omega) with rfl | rfl | rfl
        · exact ⟨_, by rw [if_pos (show nI 0 = 0 from rfl), c0, Nat.add_zero], rfl⟩
        · rw [if_neg (show ¬ nI 1 = 0 by decide), if_pos (show nI 1 = 1 from rfl)]
          rcases c1 with ⟨b0, b1⟩ | ⟨b0, b1⟩
          · exact ⟨0, by rw [if_pos b0], by rw [b1]⟩
          · exact ⟨1, by rw [if_neg (by rw [b0]; decide)], by rw [b1]⟩
        · exact ⟨_, by rw [if_neg (show ¬ nI 2 = 0 by decide), if_neg (show ¬ nI 2 = 1 by decide), if_pos (show nI 2 = 2 from rfl), c2], rfl⟩
    · refine ⟨-1, by rw [e, bind_is, if_pos rfl], ?_⟩
      by_cases h0 : p < 0
      · rw [if_pos h0]
      · rw [if_neg h0]
        rcases pk_ix p (n := C) (by omega) with h | h | ⟨c, hc, rfl⟩
        · exact absurd h h0
        · rw [if_pos h]
        · rw [if_neg (nI_ge hc (by omega))]
          by_cases h1 : q < 0
          · rw [if_pos h1]
          · rw [if_neg h1]
            rcases pk_ix q (n := R) (by omega) with h | h | ⟨rr, hr, rfl⟩
            · exact absurd h h1
            · rw [if_pos h]
            · exact (hno rr c hr hc rfl rfl).elim
theorem case21 {adS : Nat → Nat} {z L m n u v : Nat} {xs : Nat → Int32} {K : gK} {I : gI} {J : gJ} {X : gX} {A : gI} {B : gJ} {Q : gX} (hi : Inv adS z K I J X A B Q n) (ha : At L m) (hu : u ≤ 1200128 ∧ v ≤ 5501098) : Ok (w_law_j882 z adS z L xs (z + 126) (nI m) K I J X A B Q n u v) (GoesOn adS z m u v) := by
  obtain ⟨hfresh, hIS, hbegun, htold, htape, hfault, hrowby, hdone, hbest, hmore, hhooks, haims, hout, hstrs, hmost, hfire⟩ := hi
  have hS0 := hIS.1.1
  have hS11 := hIS.1.2.1
  have hKz := hS0.1
  unfold w_law_j882
  repeat' (with_reducible first | refine ok_lt ?_ | (refine ok_gdp ?_ ?_; first | exact hu | exact hS0 | exact hS11 | exact ha.r1 | exact ha.r2 | exact ha.r3 | exact ha.r4 | exact ha.r5 | assumption) | fail)
  obtain ⟨r, e1, e14⟩ := fireAt_eq (n := n) (adS := adS) (J := J) (B := B) hIS _ _ _ _ hfire (xs (nI m + (1 : Int32)).toNatClampNeg) (xs (nI m + (2 : Int32)).toNatClampNeg) (xs (nI m + (3 : Int32)).toNatClampNeg) (I 1100 (z + 126))
  refine ok_e e1 ?_
  repeat' (with_reducible first | refine ok_lt ?_ | (refine ok_gdp ?_ ?_; first | exact hu | exact hS0 | exact hS11 | exact ha.r1 | exact ha.r2 | exact ha.r3 | exact ha.r4 | exact ha.r5 | assumption) | fail)
  refine ok_e (x := (r, 0)) e14 ?_
  repeat' (with_reducible first | refine ok_lt ?_ | (refine ok_gdp ?_ ?_; first | exact hu | exact hS0 | exact hS11 | exact ha.r1 | exact ha.r2 | exact ha.r3 | exact ha.r4 | exact ha.r5 | assumption) | fail)
  refine ok_t rfl (goes0 ?_)
  dsimp only
  exact ⟨hfresh, hIS, (by simpa [ov, ova, i_up, a_up] using hbegun), (((htold).putO (by simp only [List.forall_mem_cons]; (repeat' apply And.intro); all_goals first | exact (by unfold Lo; omega) | exact Or.inr rfl | exact Or.inl (by unfold Lo; omega) | exact (by decide) | exact fun _ h => absurd h (List.not_mem_nil))).w (by simp [ov, i_up, ova, a_up])), (by simpa [ov, ova, i_up, a_up] using htape), (by simpa [ov, ova, i_up, a_up] using hfault), (by simpa [ov, ova, i_up, a_up] using hrowby), (by simpa [ov, ova, i_up, a_up] using hdone), (by simpa [ov, ova, i_up, a_up] using hbest), (by simpa [ov, ova, i_up, a_up] using hmore), (by simpa [ov, ova, i_up, a_up] using hhooks), (by simpa [ov, ova, i_up, a_up] using haims), (by simpa [ov, ova, i_up, a_up] using hout), hstrs, (by simpa [ov, ova, i_up, a_up] using hmost), (by simpa [ov, ova, i_up, a_up] using hfire)⟩
