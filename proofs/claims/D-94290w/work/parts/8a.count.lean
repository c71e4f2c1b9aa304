/-! the plain law: count -/
set_option maxRecDepth 100000
theorem count_eq {M C R P N n : Nat} {g fuel burns : Nat → Int32} {men : Nat → Option Nat} {IM : Nat → Nat → Int32} {w : Nat → Int32} {bg : Int32} (hbg : bg = 0 ∨ bg = 1) (hY : YV M C R P g fuel burns men IM (layF bg w)) (hw : layF bg w 200 = nI N) (p th : Int32) : ∃ r : Int32, f1_count p (nI n) (g 303) (g 304) (g 305) (g 306) (g 307) (nI N) = some r ∧ f14_count p th (nI n) bg w = some (r, 0, 1, layF bg w) := by
  obtain ⟨-, ⟨e0, w0, e9, w9, e10, w10, e2, w2⟩, ⟨⟨q, -, -, e1, w1⟩, -⟩, -⟩ := hY
  unfold f1_count f14_count
  rw [lay_ok hbg, bind_is]
  dsimp only
  by_cases h0 : p = 0
  · exact ⟨nI M, by rw [if_pos h0, e0], by rw [if_pos h0, men_is, bind_is, w0]⟩
  rw [if_neg h0, if_neg h0]
  by_cases h0 : p = 1
  · exact ⟨nI C, by rw [if_pos h0, e9], by rw [if_pos h0, columns_is, bind_is, w9]⟩
  rw [if_neg h0, if_neg h0]
  by_cases h0 : p = 2
  · exact ⟨nI R, by rw [if_pos h0, e10], by rw [if_pos h0, gd_t (by decide), lt_is]; exact congrArg (fun v => some (v, (0 : Int32), (1 : Int32), layF bg w)) w10⟩
  rw [if_neg h0, if_neg h0]
  by_cases h0 : p = 3
  · exact ⟨nI P, by rw [if_pos h0, e2], by rw [if_pos h0, gd_t (by decide), lt_is]; exact congrArg (fun v => some (v, (0 : Int32), (1 : Int32), layF bg w)) w2⟩
  rw [if_neg h0, if_neg h0]
  by_cases h0 : p = 4
  · exact ⟨nI N, by rw [if_pos h0], by rw [if_pos h0, gd_t (by decide), lt_is]; exact congrArg (fun v => some (v, (0 : Int32), (1 : Int32), layF bg w)) hw⟩
  rw [if_neg h0, if_neg h0]
  by_cases h0 : p = 5
  · exact ⟨nI n, by rw [if_pos h0], by rw [if_pos h0]⟩
  rw [if_neg h0, if_neg h0]
  by_cases h0 : p = 6
  · exact ⟨nI q, by rw [if_pos h0, e1], by rw [if_pos h0, gd_t (by decide), lt_is]; exact congrArg (fun v => some (v, (0 : Int32), (1 : Int32), layF bg w)) w1⟩
  rw [if_neg h0, if_neg h0]
  exact ⟨-1, rfl, rfl⟩
theorem case33 {adS : Nat → Nat} {z L m n u v : Nat} {xs : Nat → Int32} {K : gK} {I : gI} {J : gJ} {X : gX} {A : gI} {B : gJ} {Q : gX} (hi : Inv adS z K I J X A B Q n) (ha : At L m) (hu : u ≤ 1200128 ∧ v ≤ 5501098) : Ok (w_law_j1206 z L xs (z + 126) (nI m) K I J X A B Q n u v) (GoesOn adS z m u v) := by
  obtain ⟨hfresh, hIS, hbegun, htold, htape, hfault, hrowby, hdone, hbest, hmore, hhooks, haims, hout, hstrs, hmost, hfire⟩ := hi
  have hS0 := hIS.1.1
  have hS11 := hIS.1.2.1
  have hKz := hS0.1
  have hI := hIS
  obtain ⟨⟨-, -, hL171⟩, ⟨hK7, hX9⟩, ⟨hS16, hX13⟩, ⟨hS60, hX15⟩, ⟨hS85, hX36⟩, ⟨⟨hS92, hS97, hS102, hS107⟩, hQ0, hQ1, hQ2, hQ3⟩, hG, ⟨hK2, hX4⟩, ⟨hK14, hX10, hX507, hX509⟩, ⟨hK15, hX11, hX607, hX609⟩, ⟨hS123, hX50, hX1007, hX1010⟩, ⟨hS80, hX35⟩, ⟨hS114, hX45⟩, ⟨hS38, hX14⟩, ⟨hS65, hX16⟩, hG2, hyards, hseen1, hseen2⟩ := hI
  have htd := htold.ex
  obtain ⟨S, hS, hsn, ⟨y, M, C, R, P, ⟨hy, hz, hsh, hm, hY⟩, hnm, ⟨pl, Np, hp, hp1, hp2, hkp, hkp2, hxp, hIN, hN, hw200, hth⟩, hsent⟩, himg⟩ := htd
  obtain ⟨nt, bt, hnt, el, el14, hTP⟩ := htape
  have htape : pTape (I 1 z) (I 1102 (z + 126)) (A (z + 1)) (A (z + 127)) := ⟨nt, bt, hnt, el, el14, hTP⟩
  unfold w_law_j1206
  repeat' (with_reducible first | refine ok_lt ?_ | refine ok_gdp hu ?_ | refine ok_gdp hS0 ?_ | refine ok_gdp hS11 ?_ | refine ok_gdp ha.r1 ?_ | refine ok_gdp ha.r2 ?_ | refine ok_gdp ha.r3 ?_ | refine ok_gdp ha.r4 ?_ | refine ok_gdp ha.r5 ?_ | fail)
  refine ok_e hy (ok_e hp ?_)
  repeat' (with_reducible first | refine ok_lt ?_ | (refine ok_gdp ?_ ?_; first | exact hu | exact hS0 | exact hS11 | exact ha.r1 | exact ha.r2 | exact ha.r3 | exact ha.r4 | exact ha.r5 | assumption) | fail)
  obtain ⟨r, e1, e14⟩ := count_eq (n := nt) hbegun hY hw200 (xs (nI m + (1 : Int32)).toNatClampNeg) (I 1100 (z + 126))
  refine ok_e (x := r) (by rw [el, hIN]; exact e1) ?_
  repeat' (with_reducible first | refine ok_lt ?_ | refine ok_gdp hu ?_ | refine ok_gdp hS0 ?_ | refine ok_gdp hS11 ?_ | refine ok_gdp ha.r1 ?_ | refine ok_gdp ha.r2 ?_ | refine ok_gdp ha.r3 ?_ | refine ok_gdp ha.r4 ?_ | refine ok_gdp ha.r5 ?_ | fail)
  refine ok_e (x := (r, 0, 1, layF (I 1122 (z + 126)) (A (z + 128)))) (by rw [el14]; exact e14) ?_
  repeat' (with_reducible first | refine ok_lt ?_ | refine ok_gdp hu ?_ | refine ok_gdp hS0 ?_ | refine ok_gdp hS11 ?_ | refine ok_gdp ha.r1 ?_ | refine ok_gdp ha.r2 ?_ | refine ok_gdp ha.r3 ?_ | refine ok_gdp ha.r4 ?_ | refine ok_gdp ha.r5 ?_ | fail)
  refine ok_t rfl (goes0 ?_)
  dsimp only
  exact ⟨hfresh, hIS, (Or.inr (by simp [ov, i_up, ova, a_up])), (((htold).putI (by simp only [List.forall_mem_cons]; (repeat' apply And.intro); all_goals first | exact (by unfold Lo; omega) | exact Or.inr rfl | exact Or.inl (by unfold Lo; omega) | exact (by decide) | exact fun _ h => absurd h (List.not_mem_nil)) (by simp only [List.forall_mem_cons]; (repeat' apply And.intro); all_goals first | exact (by unfold Lo; omega) | exact Or.inr rfl | exact Or.inl (by unfold Lo; omega) | exact (by decide) | exact fun _ h => absurd h (List.not_mem_nil))).w (by simp [ov, i_up, ova, a_up, layF_1])), (by simpa [ov, ova, i_up, a_up] using htape), (by simpa [ov, ova, i_up, a_up] using hfault), (by simpa [ov, ova, i_up, a_up] using hrowby), (by simpa [ov, ova, i_up, a_up] using hdone), (by simpa [ov, ova, i_up, a_up] using hbest), (by simpa [ov, ova, i_up, a_up] using hmore), (by simpa [ov, ova, i_up, a_up] using hhooks), (by simpa [ov, ova, i_up, a_up] using haims), (by simpa [ov, ova, i_up, a_up] using hout), hstrs, (by simpa [ov, ova, i_up, a_up] using hmost), (by simpa [ov, ova, i_up, a_up] using hfire)⟩
