/-! the law's cases, the easy ones -/
set_option maxRecDepth 100000
theorem end_eq {p l : Int32} {n : Nat} (hl : l = nI n) (t : Int32) : ∃ (a : Int32) (q : Nat), f1_end p l = some (a, nI q) ∧ f14_end p t l = some (a, 0, nI q) ∧ (n < 2 ^ 31 → q ≤ n) := by
  subst hl
  unfold f1_end f14_end
  by_cases h : p < 0
  · exact ⟨0, n, by rw [if_pos h], by rw [if_pos h], fun _ => Nat.le_refl _⟩
  · by_cases h2 : p ≤ nI n
    · by_cases hn : n < 2 ^ 31
      · obtain ⟨j, hj, e⟩ := nI_rng hn h h2
        exact ⟨1, j, by rw [if_neg h, if_pos h2, e], by rw [if_neg h, if_pos h2, e], fun _ => hj⟩
      · obtain ⟨j, hj, e⟩ := nI_of h
        exact ⟨1, j, by rw [if_neg h, if_pos h2, e], by rw [if_neg h, if_pos h2, e], fun q => absurd q hn⟩
    · exact ⟨0, n, by rw [if_neg h, if_neg h2], by rw [if_neg h, if_neg h2], fun _ => Nat.le_refl _⟩
theorem case1 {adS : Nat → Nat} {z L m n u v : Nat} {xs : Nat → Int32} {K : gK} {I : gI} {J : gJ} {X : gX} {A : gI} {B : gJ} {Q : gX} (hi : Inv adS z K I J X A B Q n) (ha : At L m) (hu : u ≤ 1200128 ∧ v ≤ 5501098) : Ok (w_law_j265 z L xs (z + 126) (nI m) K n u v I J X A B Q) (GoesOn adS z m u v) := by
  obtain ⟨hfresh, hIS, hbegun, htold, htape, hfault, hrowby, hdone, hbest, hmore, hhooks, haims, hout, hstrs, hmost, hfire⟩ := hi
  have hS0 := hIS.1.1
  have hS11 := hIS.1.2.1
  have hKz := hS0.1
  unfold w_law_j265
  repeat' (with_reducible first | refine ok_lt ?_ | refine ok_gdp hu ?_ | refine ok_gdp hS0 ?_ | refine ok_gdp hS11 ?_ | refine ok_gdp ha.r1 ?_ | refine ok_gdp ha.r2 ?_ | refine ok_gdp ha.r3 ?_ | refine ok_gdp ha.r4 ?_ | refine ok_gdp ha.r5 ?_ | fail)
  obtain ⟨t, b, ht, e1, e14, hb⟩ := htape
  obtain ⟨a, q, h1, h2, h3⟩ := end_eq (p := xs (nI m + (1 : Int32)).toNatClampNeg) (l := I 1 z) e1 (I 1100 (z + 126))
  refine ok_e h1 ?_
  repeat' (with_reducible first | refine ok_lt ?_ | refine ok_gdp hu ?_ | refine ok_gdp hS0 ?_ | refine ok_gdp hS11 ?_ | refine ok_gdp ha.r1 ?_ | refine ok_gdp ha.r2 ?_ | refine ok_gdp ha.r3 ?_ | refine ok_gdp ha.r4 ?_ | refine ok_gdp ha.r5 ?_ | fail)
  have e6 : ov I [(1, z, nI q)] 1102 (z + 126) = I 1 z := by simp [ov, i_up]; rw [e14, e1]
  have e5 : ov I [(1, z, nI q)] 1100 (z + 126) = I 1100 (z + 126) := by simp [ov, i_up]
  dsimp only
  rw [e5, e6]
  refine ok_e h2 (ok_lt (ok_t rfl (goes0 ?_)))
  exact ⟨hfresh, hIS, (by simpa [ov, ova, i_up, a_up] using hbegun), (by first | exact htold | exact (htold.putO (by simp only [List.forall_mem_cons]; (repeat' apply And.intro); all_goals first | exact (by unfold Lo; omega) | exact fun _ h => absurd h (List.not_mem_nil))).w (by simp [ov, ova, i_up, a_up]) | exact ((htold.putO (by simp only [List.forall_mem_cons]; (repeat' apply And.intro); all_goals first | exact (by unfold Lo; omega) | exact fun _ h => absurd h (List.not_mem_nil))).putO (by simp only [List.forall_mem_cons]; (repeat' apply And.intro); all_goals first | exact (by unfold Lo; omega) | exact fun _ h => absurd h (List.not_mem_nil))).w (by simp [ov, ova, i_up, a_up]) | exact ((htold.putI (by simp only [List.forall_mem_cons]; (repeat' apply And.intro); all_goals first | exact (by unfold Lo; omega) | exact fun _ h => absurd h (List.not_mem_nil)) (by simp only [List.forall_mem_cons]; (repeat' apply And.intro); all_goals first | exact Or.inr rfl | exact Or.inl (by unfold Lo; omega) | exact fun _ h => absurd h (List.not_mem_nil))).putI (by simp only [List.forall_mem_cons]; (repeat' apply And.intro); all_goals first | exact (by unfold Lo; omega) | exact fun _ h => absurd h (List.not_mem_nil)) (by simp only [List.forall_mem_cons]; (repeat' apply And.intro); all_goals first | exact Or.inr rfl | exact Or.inl (by unfold Lo; omega) | exact fun _ h => absurd h (List.not_mem_nil))).w (by simp [ov, ova, i_up, a_up])), ⟨q, b, by have := h3 (by omega); omega, by simp [ov, i_up], by simp [ov, i_up], hb⟩, (by simpa [ov, ova, i_up, a_up] using hfault), (by simpa [ov, ova, i_up, a_up] using hrowby), (by simpa [ov, ova, i_up, a_up] using hdone), (by simpa [ov, ova, i_up, a_up] using hbest), (by simpa [ov, ova, i_up, a_up] using hmore), (by simpa [ov, ova, i_up, a_up] using hhooks), (by simpa [ov, ova, i_up, a_up] using haims), (by simpa [ov, ova, i_up, a_up] using hout), hstrs, (by simpa [ov, ova, i_up, a_up] using hmost), (by simpa [ov, ova, i_up, a_up] using hfire)⟩
theorem case3 {adS : Nat → Nat} {z L m n u v : Nat} {xs : Nat → Int32} {K : gK} {I : gI} {J : gJ} {X : gX} {A : gI} {B : gJ} {Q : gX} (hi : Inv adS z K I J X A B Q n) (ha : At L m) (hu : u ≤ 1200128 ∧ v ≤ 5501098) : Ok (w_law_j303 z (z + 126) (nI m) K I J X A B Q n u v) (GoesOn adS z m u v) := by
  obtain ⟨hfresh, hIS, hbegun, htold, htape, hfault, hrowby, hdone, hbest, hmore, hhooks, haims, hout, hstrs, hmost, hfire⟩ := hi
  have hS0 := hIS.1.1
  have hS11 := hIS.1.2.1
  have hKz := hS0.1
  unfold w_law_j303
  repeat' (with_reducible first | refine ok_lt ?_ | refine ok_gdp hu ?_ | refine ok_gdp hS0 ?_ | refine ok_gdp hS11 ?_ | refine ok_gdp ha.r1 ?_ | refine ok_gdp ha.r2 ?_ | refine ok_gdp ha.r3 ?_ | refine ok_gdp ha.r4 ?_ | refine ok_gdp ha.r5 ?_ | fail)
  refine ok_e (x := I 12 z) rfl ?_
  repeat' (with_reducible first | refine ok_lt ?_ | refine ok_gdp hu ?_ | refine ok_gdp hS0 ?_ | refine ok_gdp hS11 ?_ | refine ok_gdp ha.r1 ?_ | refine ok_gdp ha.r2 ?_ | refine ok_gdp ha.r3 ?_ | refine ok_gdp ha.r4 ?_ | refine ok_gdp ha.r5 ?_ | fail)
  refine ok_e (x := (I 1110 (z + 126), 0)) rfl (ok_lt (ok_t hfault (goes0 ?_)))
  exact ⟨hfresh, hIS, (by simpa [ov, ova, i_up, a_up] using hbegun), (by first | exact htold | exact (htold.putO (by simp only [List.forall_mem_cons]; (repeat' apply And.intro); all_goals first | exact (by unfold Lo; omega) | exact fun _ h => absurd h (List.not_mem_nil))).w (by simp [ov, ova, i_up, a_up]) | exact ((htold.putO (by simp only [List.forall_mem_cons]; (repeat' apply And.intro); all_goals first | exact (by unfold Lo; omega) | exact fun _ h => absurd h (List.not_mem_nil))).putO (by simp only [List.forall_mem_cons]; (repeat' apply And.intro); all_goals first | exact (by unfold Lo; omega) | exact fun _ h => absurd h (List.not_mem_nil))).w (by simp [ov, ova, i_up, a_up]) | exact ((htold.putI (by simp only [List.forall_mem_cons]; (repeat' apply And.intro); all_goals first | exact (by unfold Lo; omega) | exact fun _ h => absurd h (List.not_mem_nil)) (by simp only [List.forall_mem_cons]; (repeat' apply And.intro); all_goals first | exact Or.inr rfl | exact Or.inl (by unfold Lo; omega) | exact fun _ h => absurd h (List.not_mem_nil))).putI (by simp only [List.forall_mem_cons]; (repeat' apply And.intro); all_goals first | exact (by unfold Lo; omega) | exact fun _ h => absurd h (List.not_mem_nil)) (by simp only [List.forall_mem_cons]; (repeat' apply And.intro); all_goals first | exact Or.inr rfl | exact Or.inl (by unfold Lo; omega) | exact fun _ h => absurd h (List.not_mem_nil))).w (by simp [ov, ova, i_up, a_up])), (by simpa [ov, ova, i_up, a_up] using htape), (by simpa [ov, ova, i_up, a_up] using hfault), (by simpa [ov, ova, i_up, a_up] using hrowby), (by simpa [ov, ova, i_up, a_up] using hdone), (by simpa [ov, ova, i_up, a_up] using hbest), (by simpa [ov, ova, i_up, a_up] using hmore), (by simpa [ov, ova, i_up, a_up] using hhooks), (by simpa [ov, ova, i_up, a_up] using haims), (by simpa [ov, ova, i_up, a_up] using hout), hstrs, (by simpa [ov, ova, i_up, a_up] using hmost), (by simpa [ov, ova, i_up, a_up] using hfire)⟩
/-- one of a row of answers kept -/
theorem kept_is {N : Nat} (hN : N < 1000) {m1 m14 : Int32} {a1 a14 : Nat → Int32} (h : pKept N m1 m14 a1 a14) (p : Int32) (F : Int32 → Int32 → (Nat → Int32) → Option Int32) (F14 : Int32 → Int32 → Int32 → (Nat → Int32) → Option (Int32 × Int32))
    (hF : ∀ p m a, F p m a = (f1_isIn p 0 (m - 1)).bind fun r => if r = 0 then some (-1) else gd (inb p N) <| lt (a p.toNatClampNeg) fun v => some v)
    (hF14 : ∀ p t m a, F14 p t m a = if p < 0 then some (-1, 0) else if m ≤ p then some (-1, 0) else gd (inb p N) <| lt (a p.toNatClampNeg) fun v => some (v, 0)) (t : Int32) : ∃ r : Int32, F p m1 a1 = some r ∧ F14 p t m14 a14 = some (r, 0) := by
  obtain ⟨m, hm, rfl, rfl, h⟩ := h
  rw [hF, hF14, isIn1]
  by_cases h1 : p < 0
  · refine ⟨-1, ?_, by rw [if_pos h1]⟩
    rw [if_pos h1]
    rfl
  · obtain ⟨j, hj, rfl⟩ := nI_of h1
    by_cases h2 : m ≤ j
    · have h3 : nI m - 1 < nI j := by
        rw [Int32.lt_iff_toInt_lt, show (1 : Int32) = nI 1 from rfl, pk_sub_toInt (by omega) (by decide), nI_toInt hj]
        omega
      refine ⟨-1, ?_, by rw [if_neg h1, if_pos ((nI_leI (by omega) hj).mpr h2)]⟩
      rw [if_neg h1, if_pos h3]
      rfl
    · have h3 : ¬ nI m - 1 < nI j := by
        rw [Int32.lt_iff_toInt_lt, show (1 : Int32) = nI 1 from rfl, pk_sub_toInt (by omega) (by decide), nI_toInt hj]
        omega
      have hjN : inb (nI j) N := inb_nI (by omega) (by omega)
      refine ⟨a1 j, ?_, ?_⟩
      · rw [if_neg h1, if_neg h3]
        show gd (inb (nI j) N) (some (a1 (nI j).toNatClampNeg)) = _
        rw [gd_t hjN, nI_clamp hj]
      · rw [if_neg h1, if_neg (fun q => h2 ((nI_leI (by omega) hj).mp q)), gd_t hjN]
        show some (a14 (nI j).toNatClampNeg, (0 : Int32)) = _
        rw [nI_clamp hj, h j (by omega)]
theorem case8 {adS : Nat → Nat} {z L m n u v : Nat} {xs : Nat → Int32} {K : gK} {I : gI} {J : gJ} {X : gX} {A : gI} {B : gJ} {Q : gX} (hi : Inv adS z K I J X A B Q n) (ha : At L m) (hu : u ≤ 1200128 ∧ v ≤ 5501098) : Ok (w_law_j514 z L xs (z + 126) (nI m) K I J X A B Q n u v) (GoesOn adS z m u v) := by
  obtain ⟨hfresh, hIS, hbegun, htold, htape, hfault, hrowby, hdone, hbest, hmore, hhooks, haims, hout, hstrs, hmost, hfire⟩ := hi
  have hS0 := hIS.1.1
  have hS11 := hIS.1.2.1
  have hKz := hS0.1
  unfold w_law_j514
  repeat' (with_reducible first | refine ok_lt ?_ | refine ok_gdp hu ?_ | refine ok_gdp hS0 ?_ | refine ok_gdp hS11 ?_ | refine ok_gdp ha.r1 ?_ | refine ok_gdp ha.r2 ?_ | refine ok_gdp ha.r3 ?_ | refine ok_gdp ha.r4 ?_ | refine ok_gdp ha.r5 ?_ | fail)
  obtain ⟨r, h1, h2⟩ := kept_is (by decide) hdone (xs (nI m + (1 : Int32)).toNatClampNeg) f1_done f14_done (fun _ _ _ => rfl) (fun _ _ _ _ => rfl) (I 1100 (z + 126))
  refine ok_e h1 ?_
  repeat' (with_reducible first | refine ok_lt ?_ | refine ok_gdp hu ?_ | refine ok_gdp hS0 ?_ | refine ok_gdp hS11 ?_ | refine ok_gdp ha.r1 ?_ | refine ok_gdp ha.r2 ?_ | refine ok_gdp ha.r3 ?_ | refine ok_gdp ha.r4 ?_ | refine ok_gdp ha.r5 ?_ | fail)
  refine ok_e h2 (ok_lt (ok_t rfl (goes0 ?_)))
  exact ⟨hfresh, hIS, (by simpa [ov, ova, i_up, a_up] using hbegun), (by first | exact htold | exact (htold.putO (by simp only [List.forall_mem_cons]; (repeat' apply And.intro); all_goals first | exact (by unfold Lo; omega) | exact fun _ h => absurd h (List.not_mem_nil))).w (by simp [ov, ova, i_up, a_up]) | exact ((htold.putO (by simp only [List.forall_mem_cons]; (repeat' apply And.intro); all_goals first | exact (by unfold Lo; omega) | exact fun _ h => absurd h (List.not_mem_nil))).putO (by simp only [List.forall_mem_cons]; (repeat' apply And.intro); all_goals first | exact (by unfold Lo; omega) | exact fun _ h => absurd h (List.not_mem_nil))).w (by simp [ov, ova, i_up, a_up]) | exact ((htold.putI (by simp only [List.forall_mem_cons]; (repeat' apply And.intro); all_goals first | exact (by unfold Lo; omega) | exact fun _ h => absurd h (List.not_mem_nil)) (by simp only [List.forall_mem_cons]; (repeat' apply And.intro); all_goals first | exact Or.inr rfl | exact Or.inl (by unfold Lo; omega) | exact fun _ h => absurd h (List.not_mem_nil))).putI (by simp only [List.forall_mem_cons]; (repeat' apply And.intro); all_goals first | exact (by unfold Lo; omega) | exact fun _ h => absurd h (List.not_mem_nil)) (by simp only [List.forall_mem_cons]; (repeat' apply And.intro); all_goals first | exact Or.inr rfl | exact Or.inl (by unfold Lo; omega) | exact fun _ h => absurd h (List.not_mem_nil))).w (by simp [ov, ova, i_up, a_up])), (by simpa [ov, ova, i_up, a_up] using htape), (by simpa [ov, ova, i_up, a_up] using hfault), (by simpa [ov, ova, i_up, a_up] using hrowby), (by simpa [ov, ova, i_up, a_up] using hdone), (by simpa [ov, ova, i_up, a_up] using hbest), (by simpa [ov, ova, i_up, a_up] using hmore), (by simpa [ov, ova, i_up, a_up] using hhooks), (by simpa [ov, ova, i_up, a_up] using haims), (by simpa [ov, ova, i_up, a_up] using hout), hstrs, (by simpa [ov, ova, i_up, a_up] using hmost), (by simpa [ov, ova, i_up, a_up] using hfire)⟩
theorem case11 {adS : Nat → Nat} {z L m n u v : Nat} {xs : Nat → Int32} {K : gK} {I : gI} {J : gJ} {X : gX} {A : gI} {B : gJ} {Q : gX} (hi : Inv adS z K I J X A B Q n) (ha : At L m) (hu : u ≤ 1200128 ∧ v ≤ 5501098) : Ok (w_law_j565 z L xs (z + 126) (nI m) K I J X A B Q n u v) (GoesOn adS z m u v) := by
  obtain ⟨hfresh, hIS, hbegun, htold, htape, hfault, hrowby, hdone, hbest, hmore, hhooks, haims, hout, hstrs, hmost, hfire⟩ := hi
  have hS0 := hIS.1.1
  have hS11 := hIS.1.2.1
  have hKz := hS0.1
  unfold w_law_j565
  repeat' (with_reducible first | refine ok_lt ?_ | refine ok_gdp hu ?_ | refine ok_gdp hS0 ?_ | refine ok_gdp hS11 ?_ | refine ok_gdp ha.r1 ?_ | refine ok_gdp ha.r2 ?_ | refine ok_gdp ha.r3 ?_ | refine ok_gdp ha.r4 ?_ | refine ok_gdp ha.r5 ?_ | fail)
  obtain ⟨r, h1, h2⟩ := kept_is (by decide) hbest (xs (nI m + (1 : Int32)).toNatClampNeg) f1_bestAt f14_bestAt (fun _ _ _ => rfl) (fun _ _ _ _ => rfl) (I 1100 (z + 126))
  refine ok_e h1 ?_
  repeat' (with_reducible first | refine ok_lt ?_ | refine ok_gdp hu ?_ | refine ok_gdp hS0 ?_ | refine ok_gdp hS11 ?_ | refine ok_gdp ha.r1 ?_ | refine ok_gdp ha.r2 ?_ | refine ok_gdp ha.r3 ?_ | refine ok_gdp ha.r4 ?_ | refine ok_gdp ha.r5 ?_ | fail)
  refine ok_e h2 (ok_lt (ok_t rfl (goes0 ?_)))
  exact ⟨hfresh, hIS, (by simpa [ov, ova, i_up, a_up] using hbegun), (by first | exact htold | exact (htold.putO (by simp only [List.forall_mem_cons]; (repeat' apply And.intro); all_goals first | exact (by unfold Lo; omega) | exact fun _ h => absurd h (List.not_mem_nil))).w (by simp [ov, ova, i_up, a_up]) | exact ((htold.putO (by simp only [List.forall_mem_cons]; (repeat' apply And.intro); all_goals first | exact (by unfold Lo; omega) | exact fun _ h => absurd h (List.not_mem_nil))).putO (by simp only [List.forall_mem_cons]; (repeat' apply And.intro); all_goals first | exact (by unfold Lo; omega) | exact fun _ h => absurd h (List.not_mem_nil))).w (by simp [ov, ova, i_up, a_up]) | exact ((htold.putI (by simp only [List.forall_mem_cons]; (repeat' apply And.intro); all_goals first | exact (by unfold Lo; omega) | exact fun _ h => absurd h (List.not_mem_nil)) (by simp only [List.forall_mem_cons]; (repeat' apply And.intro); all_goals first | exact Or.inr rfl | exact Or.inl (by unfold Lo; omega) | exact fun _ h => absurd h (List.not_mem_nil))).putI (by simp only [List.forall_mem_cons]; (repeat' apply And.intro); all_goals first | exact (by unfold Lo; omega) | exact fun _ h => absurd h (List.not_mem_nil)) (by simp only [List.forall_mem_cons]; (repeat' apply And.intro); all_goals first | exact Or.inr rfl | exact Or.inl (by unfold Lo; omega) | exact fun _ h => absurd h (List.not_mem_nil))).w (by simp [ov, ova, i_up, a_up])), (by simpa [ov, ova, i_up, a_up] using htape), (by simpa [ov, ova, i_up, a_up] using hfault), (by simpa [ov, ova, i_up, a_up] using hrowby), (by simpa [ov, ova, i_up, a_up] using hdone), (by simpa [ov, ova, i_up, a_up] using hbest), (by simpa [ov, ova, i_up, a_up] using hmore), (by simpa [ov, ova, i_up, a_up] using hhooks), (by simpa [ov, ova, i_up, a_up] using haims), (by simpa [ov, ova, i_up, a_up] using hout), hstrs, (by simpa [ov, ova, i_up, a_up] using hmost), (by simpa [ov, ova, i_up, a_up] using hfire)⟩
theorem case16 {adS : Nat → Nat} {z L m n u v : Nat} {xs : Nat → Int32} {K : gK} {I : gI} {J : gJ} {X : gX} {A : gI} {B : gJ} {Q : gX} (hi : Inv adS z K I J X A B Q n) (ha : At L m) (hu : u ≤ 1200128 ∧ v ≤ 5501098) : Ok (w_law_j733 z L xs (z + 126) (nI m) K I J X A B Q n u v) (GoesOn adS z m u v) := by
  obtain ⟨hfresh, hIS, hbegun, htold, htape, hfault, hrowby, hdone, hbest, hmore, hhooks, haims, hout, hstrs, hmost, hfire⟩ := hi
  have hS0 := hIS.1.1
  have hS11 := hIS.1.2.1
  have hKz := hS0.1
  unfold w_law_j733
  repeat' (with_reducible first | refine ok_lt ?_ | refine ok_gdp hu ?_ | refine ok_gdp hS0 ?_ | refine ok_gdp hS11 ?_ | refine ok_gdp ha.r1 ?_ | refine ok_gdp ha.r2 ?_ | refine ok_gdp ha.r3 ?_ | refine ok_gdp ha.r4 ?_ | refine ok_gdp ha.r5 ?_ | fail)
  obtain ⟨r, h1, h2⟩ := kept_is (by decide) hmore (xs (nI m + (1 : Int32)).toNatClampNeg) f1_moreAt f14_moreAt (fun _ _ _ => rfl) (fun _ _ _ _ => rfl) (I 1100 (z + 126))
  refine ok_e h1 ?_
  repeat' (with_reducible first | refine ok_lt ?_ | refine ok_gdp hu ?_ | refine ok_gdp hS0 ?_ | refine ok_gdp hS11 ?_ | refine ok_gdp ha.r1 ?_ | refine ok_gdp ha.r2 ?_ | refine ok_gdp ha.r3 ?_ | refine ok_gdp ha.r4 ?_ | refine ok_gdp ha.r5 ?_ | fail)
  refine ok_e h2 (ok_lt (ok_t rfl (goes0 ?_)))
  exact ⟨hfresh, hIS, (by simpa [ov, ova, i_up, a_up] using hbegun), (by first | exact htold | exact (htold.putO (by simp only [List.forall_mem_cons]; (repeat' apply And.intro); all_goals first | exact (by unfold Lo; omega) | exact fun _ h => absurd h (List.not_mem_nil))).w (by simp [ov, ova, i_up, a_up]) | exact ((htold.putO (by simp only [List.forall_mem_cons]; (repeat' apply And.intro); all_goals first | exact (by unfold Lo; omega) | exact fun _ h => absurd h (List.not_mem_nil))).putO (by simp only [List.forall_mem_cons]; (repeat' apply And.intro); all_goals first | exact (by unfold Lo; omega) | exact fun _ h => absurd h (List.not_mem_nil))).w (by simp [ov, ova, i_up, a_up]) | exact ((htold.putI (by simp only [List.forall_mem_cons]; (repeat' apply And.intro); all_goals first | exact (by unfold Lo; omega) | exact fun _ h => absurd h (List.not_mem_nil)) (by simp only [List.forall_mem_cons]; (repeat' apply And.intro); all_goals first | exact Or.inr rfl | exact Or.inl (by unfold Lo; omega) | exact fun _ h => absurd h (List.not_mem_nil))).putI (by simp only [List.forall_mem_cons]; (repeat' apply And.intro); all_goals first | exact (by unfold Lo; omega) | exact fun _ h => absurd h (List.not_mem_nil)) (by simp only [List.forall_mem_cons]; (repeat' apply And.intro); all_goals first | exact Or.inr rfl | exact Or.inl (by unfold Lo; omega) | exact fun _ h => absurd h (List.not_mem_nil))).w (by simp [ov, ova, i_up, a_up])), (by simpa [ov, ova, i_up, a_up] using htape), (by simpa [ov, ova, i_up, a_up] using hfault), (by simpa [ov, ova, i_up, a_up] using hrowby), (by simpa [ov, ova, i_up, a_up] using hdone), (by simpa [ov, ova, i_up, a_up] using hbest), (by simpa [ov, ova, i_up, a_up] using hmore), (by simpa [ov, ova, i_up, a_up] using hhooks), (by simpa [ov, ova, i_up, a_up] using haims), (by simpa [ov, ova, i_up, a_up] using hout), hstrs, (by simpa [ov, ova, i_up, a_up] using hmost), (by simpa [ov, ova, i_up, a_up] using hfire)⟩
theorem case19 {adS : Nat → Nat} {z L m n u v : Nat} {xs : Nat → Int32} {K : gK} {I : gI} {J : gJ} {X : gX} {A : gI} {B : gJ} {Q : gX} (hi : Inv adS z K I J X A B Q n) (ha : At L m) (hu : u ≤ 1200128 ∧ v ≤ 5501098) : Ok (w_law_j796 z L xs (z + 126) (nI m) K I J X A B Q n u v) (GoesOn adS z m u v) := by
  obtain ⟨hfresh, hIS, hbegun, htold, htape, hfault, hrowby, hdone, hbest, hmore, hhooks, haims, hout, hstrs, hmost, hfire⟩ := hi
  have hS0 := hIS.1.1
  have hS11 := hIS.1.2.1
  have hKz := hS0.1
  unfold w_law_j796
  repeat' (with_reducible first | refine ok_lt ?_ | refine ok_gdp hu ?_ | refine ok_gdp hS0 ?_ | refine ok_gdp hS11 ?_ | refine ok_gdp ha.r1 ?_ | refine ok_gdp ha.r2 ?_ | refine ok_gdp ha.r3 ?_ | refine ok_gdp ha.r4 ?_ | refine ok_gdp ha.r5 ?_ | fail)
  obtain ⟨r, h1, h2⟩ := kept_is (by decide) hhooks (xs (nI m + (1 : Int32)).toNatClampNeg) f1_hookAt f14_hookAt (fun _ _ _ => rfl) (fun _ _ _ _ => rfl) (I 1100 (z + 126))
  refine ok_e h1 ?_
  repeat' (with_reducible first | refine ok_lt ?_ | refine ok_gdp hu ?_ | refine ok_gdp hS0 ?_ | refine ok_gdp hS11 ?_ | refine ok_gdp ha.r1 ?_ | refine ok_gdp ha.r2 ?_ | refine ok_gdp ha.r3 ?_ | refine ok_gdp ha.r4 ?_ | refine ok_gdp ha.r5 ?_ | fail)
  refine ok_e h2 (ok_lt (ok_t rfl (goes0 ?_)))
  exact ⟨hfresh, hIS, (by simpa [ov, ova, i_up, a_up] using hbegun), (by first | exact htold | exact (htold.putO (by simp only [List.forall_mem_cons]; (repeat' apply And.intro); all_goals first | exact (by unfold Lo; omega) | exact fun _ h => absurd h (List.not_mem_nil))).w (by simp [ov, ova, i_up, a_up]) | exact ((htold.putO (by simp only [List.forall_mem_cons]; (repeat' apply And.intro); all_goals first | exact (by unfold Lo; omega) | exact fun _ h => absurd h (List.not_mem_nil))).putO (by simp only [List.forall_mem_cons]; (repeat' apply And.intro); all_goals first | exact (by unfold Lo; omega) | exact fun _ h => absurd h (List.not_mem_nil))).w (by simp [ov, ova, i_up, a_up]) | exact ((htold.putI (by simp only [List.forall_mem_cons]; (repeat' apply And.intro); all_goals first | exact (by unfold Lo; omega) | exact fun _ h => absurd h (List.not_mem_nil)) (by simp only [List.forall_mem_cons]; (repeat' apply And.intro); all_goals first | exact Or.inr rfl | exact Or.inl (by unfold Lo; omega) | exact fun _ h => absurd h (List.not_mem_nil))).putI (by simp only [List.forall_mem_cons]; (repeat' apply And.intro); all_goals first | exact (by unfold Lo; omega) | exact fun _ h => absurd h (List.not_mem_nil)) (by simp only [List.forall_mem_cons]; (repeat' apply And.intro); all_goals first | exact Or.inr rfl | exact Or.inl (by unfold Lo; omega) | exact fun _ h => absurd h (List.not_mem_nil))).w (by simp [ov, ova, i_up, a_up])), (by simpa [ov, ova, i_up, a_up] using htape), (by simpa [ov, ova, i_up, a_up] using hfault), (by simpa [ov, ova, i_up, a_up] using hrowby), (by simpa [ov, ova, i_up, a_up] using hdone), (by simpa [ov, ova, i_up, a_up] using hbest), (by simpa [ov, ova, i_up, a_up] using hmore), (by simpa [ov, ova, i_up, a_up] using hhooks), (by simpa [ov, ova, i_up, a_up] using haims), (by simpa [ov, ova, i_up, a_up] using hout), hstrs, (by simpa [ov, ova, i_up, a_up] using hmost), (by simpa [ov, ova, i_up, a_up] using hfire)⟩
theorem case24 {adS : Nat → Nat} {z L m n u v : Nat} {xs : Nat → Int32} {K : gK} {I : gI} {J : gJ} {X : gX} {A : gI} {B : gJ} {Q : gX} (hi : Inv adS z K I J X A B Q n) (ha : At L m) (hu : u ≤ 1200128 ∧ v ≤ 5501098) : Ok (w_law_j981 z L xs (z + 126) (nI m) K I J X A B Q n u v) (GoesOn adS z m u v) := by
  obtain ⟨hfresh, hIS, hbegun, htold, htape, hfault, hrowby, hdone, hbest, hmore, hhooks, haims, hout, hstrs, hmost, hfire⟩ := hi
  have hS0 := hIS.1.1
  have hS11 := hIS.1.2.1
  have hKz := hS0.1
  unfold w_law_j981
  repeat' (with_reducible first | refine ok_lt ?_ | refine ok_gdp hu ?_ | refine ok_gdp hS0 ?_ | refine ok_gdp hS11 ?_ | refine ok_gdp ha.r1 ?_ | refine ok_gdp ha.r2 ?_ | refine ok_gdp ha.r3 ?_ | refine ok_gdp ha.r4 ?_ | refine ok_gdp ha.r5 ?_ | fail)
  obtain ⟨r, h1, h2⟩ := kept_is (by decide) haims (xs (nI m + (1 : Int32)).toNatClampNeg) f1_aimAt f14_aimAt (fun _ _ _ => rfl) (fun _ _ _ _ => rfl) (I 1100 (z + 126))
  refine ok_e h1 ?_
  repeat' (with_reducible first | refine ok_lt ?_ | refine ok_gdp hu ?_ | refine ok_gdp hS0 ?_ | refine ok_gdp hS11 ?_ | refine ok_gdp ha.r1 ?_ | refine ok_gdp ha.r2 ?_ | refine ok_gdp ha.r3 ?_ | refine ok_gdp ha.r4 ?_ | refine ok_gdp ha.r5 ?_ | fail)
  refine ok_e h2 (ok_lt (ok_t rfl (goes0 ?_)))
  exact ⟨hfresh, hIS, (by simpa [ov, ova, i_up, a_up] using hbegun), (by first | exact htold | exact (htold.putO (by simp only [List.forall_mem_cons]; (repeat' apply And.intro); all_goals first | exact (by unfold Lo; omega) | exact fun _ h => absurd h (List.not_mem_nil))).w (by simp [ov, ova, i_up, a_up]) | exact ((htold.putO (by simp only [List.forall_mem_cons]; (repeat' apply And.intro); all_goals first | exact (by unfold Lo; omega) | exact fun _ h => absurd h (List.not_mem_nil))).putO (by simp only [List.forall_mem_cons]; (repeat' apply And.intro); all_goals first | exact (by unfold Lo; omega) | exact fun _ h => absurd h (List.not_mem_nil))).w (by simp [ov, ova, i_up, a_up]) | exact ((htold.putI (by simp only [List.forall_mem_cons]; (repeat' apply And.intro); all_goals first | exact (by unfold Lo; omega) | exact fun _ h => absurd h (List.not_mem_nil)) (by simp only [List.forall_mem_cons]; (repeat' apply And.intro); all_goals first | exact Or.inr rfl | exact Or.inl (by unfold Lo; omega) | exact fun _ h => absurd h (List.not_mem_nil))).putI (by simp only [List.forall_mem_cons]; (repeat' apply And.intro); all_goals first | exact (by unfold Lo; omega) | exact fun _ h => absurd h (List.not_mem_nil)) (by simp only [List.forall_mem_cons]; (repeat' apply And.intro); all_goals first | exact Or.inr rfl | exact Or.inl (by unfold Lo; omega) | exact fun _ h => absurd h (List.not_mem_nil))).w (by simp [ov, ova, i_up, a_up])), (by simpa [ov, ova, i_up, a_up] using htape), (by simpa [ov, ova, i_up, a_up] using hfault), (by simpa [ov, ova, i_up, a_up] using hrowby), (by simpa [ov, ova, i_up, a_up] using hdone), (by simpa [ov, ova, i_up, a_up] using hbest), (by simpa [ov, ova, i_up, a_up] using hmore), (by simpa [ov, ova, i_up, a_up] using hhooks), (by simpa [ov, ova, i_up, a_up] using haims), (by simpa [ov, ova, i_up, a_up] using hout), hstrs, (by simpa [ov, ova, i_up, a_up] using hmost), (by simpa [ov, ova, i_up, a_up] using hfire)⟩
theorem case7 {adS : Nat → Nat} {z L m n u v : Nat} {xs : Nat → Int32} {K : gK} {I : gI} {J : gJ} {X : gX} {A : gI} {B : gJ} {Q : gX} (hi : Inv adS z K I J X A B Q n) (ha : At L m) (hu : u ≤ 1200128 ∧ v ≤ 5501098) : Ok (w_law_j489 z L xs (z + 126) (nI m) K I J X A B Q n u v) (GoesOn adS z m u v) := by
  obtain ⟨hfresh, hIS, hbegun, htold, htape, hfault, hrowby, hdone, hbest, hmore, hhooks, haims, hout, hstrs, hmost, hfire⟩ := hi
  have hS0 := hIS.1.1
  have hS11 := hIS.1.2.1
  have hKz := hS0.1
  unfold w_law_j489
  repeat' (with_reducible first | refine ok_lt ?_ | refine ok_gdp hu ?_ | refine ok_gdp hS0 ?_ | refine ok_gdp hS11 ?_ | refine ok_gdp ha.r1 ?_ | refine ok_gdp ha.r2 ?_ | refine ok_gdp ha.r3 ?_ | refine ok_gdp ha.r4 ?_ | refine ok_gdp ha.r5 ?_ | fail)
  have key : ∃ r : Int32, f1_rowBy (xs (nI m + (1 : Int32)).toNatClampNeg) (I 19 z) (A (z + 71)) = some r ∧ f14_rowBy (xs (nI m + (1 : Int32)).toNatClampNeg) (I 1100 (z + 126)) (A (z + 145)) = some (r, 0) := by
    generalize xs (nI m + (1 : Int32)).toNatClampNeg = p
    unfold f1_rowBy f14_rowBy f1_rowBy_j25
    rcases isIn_cc p (a := 0) (b := 5) (A := 0) (B := 5) rfl rfl (by decide) (by decide) with ⟨e, e', -⟩ | ⟨e, e', j, -, hj, rfl⟩
    · rw [e, e']
      refine ⟨-1, ?_, rfl⟩
      split
      · rfl
      · rfl
    · rw [e, e']
      have hj6 : inb (nI j) 6 := inb_nI (by omega) (by decide)
      rcases hrowby with ⟨h0, h⟩ | ⟨h0, h⟩
      · refine ⟨-1, by rw [if_pos h0], ?_⟩
        show gd (inb (nI j) 6) (some (A (z + 145) (nI j).toNatClampNeg, (0 : Int32))) = _
        rw [gd_t hj6, nI_clamp (by omega), h j (by omega)]
      · refine ⟨A (z + 71) j, ?_, ?_⟩
        · rw [h0, if_neg (by decide)]
          show gd (inb (nI j) 6) (some (A (z + 71) (nI j).toNatClampNeg)) = _
          rw [gd_t hj6, nI_clamp (by omega)]
        · show gd (inb (nI j) 6) (some (A (z + 145) (nI j).toNatClampNeg, (0 : Int32))) = _
          rw [gd_t hj6, nI_clamp (by omega), h j (by omega)]
  obtain ⟨r, h1, h2⟩ := key
  refine ok_e h1 ?_
  repeat' (with_reducible first | refine ok_lt ?_ | refine ok_gdp hu ?_ | refine ok_gdp hS0 ?_ | refine ok_gdp hS11 ?_ | refine ok_gdp ha.r1 ?_ | refine ok_gdp ha.r2 ?_ | refine ok_gdp ha.r3 ?_ | refine ok_gdp ha.r4 ?_ | refine ok_gdp ha.r5 ?_ | fail)
  refine ok_e h2 (ok_lt (ok_t rfl (goes0 ?_)))
  exact ⟨hfresh, hIS, (by simpa [ov, ova, i_up, a_up] using hbegun), (by first | exact htold | exact (htold.putO (by simp only [List.forall_mem_cons]; (repeat' apply And.intro); all_goals first | exact (by unfold Lo; omega) | exact fun _ h => absurd h (List.not_mem_nil))).w (by simp [ov, ova, i_up, a_up]) | exact ((htold.putO (by simp only [List.forall_mem_cons]; (repeat' apply And.intro); all_goals first | exact (by unfold Lo; omega) | exact fun _ h => absurd h (List.not_mem_nil))).putO (by simp only [List.forall_mem_cons]; (repeat' apply And.intro); all_goals first | exact (by unfold Lo; omega) | exact fun _ h => absurd h (List.not_mem_nil))).w (by simp [ov, ova, i_up, a_up]) | exact ((htold.putI (by simp only [List.forall_mem_cons]; (repeat' apply And.intro); all_goals first | exact (by unfold Lo; omega) | exact fun _ h => absurd h (List.not_mem_nil)) (by simp only [List.forall_mem_cons]; (repeat' apply And.intro); all_goals first | exact Or.inr rfl | exact Or.inl (by unfold Lo; omega) | exact fun _ h => absurd h (List.not_mem_nil))).putI (by simp only [List.forall_mem_cons]; (repeat' apply And.intro); all_goals first | exact (by unfold Lo; omega) | exact fun _ h => absurd h (List.not_mem_nil)) (by simp only [List.forall_mem_cons]; (repeat' apply And.intro); all_goals first | exact Or.inr rfl | exact Or.inl (by unfold Lo; omega) | exact fun _ h => absurd h (List.not_mem_nil))).w (by simp [ov, ova, i_up, a_up])), (by simpa [ov, ova, i_up, a_up] using htape), (by simpa [ov, ova, i_up, a_up] using hfault), (by simpa [ov, ova, i_up, a_up] using hrowby), (by simpa [ov, ova, i_up, a_up] using hdone), (by simpa [ov, ova, i_up, a_up] using hbest), (by simpa [ov, ova, i_up, a_up] using hmore), (by simpa [ov, ova, i_up, a_up] using hhooks), (by simpa [ov, ova, i_up, a_up] using haims), (by simpa [ov, ova, i_up, a_up] using hout), hstrs, (by simpa [ov, ova, i_up, a_up] using hmost), (by simpa [ov, ova, i_up, a_up] using hfire)⟩
theorem case22 {adS : Nat → Nat} {z L m n u v : Nat} {xs : Nat → Int32} {K : gK} {I : gI} {J : gJ} {X : gX} {A : gI} {B : gJ} {Q : gX} (hi : Inv adS z K I J X A B Q n) (ha : At L m) (hu : u ≤ 1200128 ∧ v ≤ 5501098) : Ok (w_law_j931 z (z + 126) (nI m) K I J X A B Q n u v) (GoesOn adS z m u v) := by
  obtain ⟨hfresh, hIS, hbegun, htold, htape, hfault, hrowby, hdone, hbest, hmore, hhooks, haims, hout, hstrs, hmost, hfire⟩ := hi
  have hS0 := hIS.1.1
  have hS11 := hIS.1.2.1
  have hKz := hS0.1
  unfold w_law_j931
  repeat' (with_reducible first | refine ok_lt ?_ | refine ok_gdp hu ?_ | refine ok_gdp hS0 ?_ | refine ok_gdp hS11 ?_ | refine ok_gdp ha.r1 ?_ | refine ok_gdp ha.r2 ?_ | refine ok_gdp ha.r3 ?_ | refine ok_gdp ha.r4 ?_ | refine ok_gdp ha.r5 ?_ | fail)
  have key : f1_out (I 38 z) (I 39 z) = some (I 1175 (z + 126)) := by
    unfold f1_out
    rcases hout with ⟨h0, h⟩ | ⟨h0, h⟩
    · rw [if_pos h0, h]
    · rw [h0, if_neg (by decide), h]
  refine ok_e key ?_
  repeat' (with_reducible first | refine ok_lt ?_ | refine ok_gdp hu ?_ | refine ok_gdp hS0 ?_ | refine ok_gdp hS11 ?_ | refine ok_gdp ha.r1 ?_ | refine ok_gdp ha.r2 ?_ | refine ok_gdp ha.r3 ?_ | refine ok_gdp ha.r4 ?_ | refine ok_gdp ha.r5 ?_ | fail)
  refine ok_e (x := (I 1175 (z + 126), 0)) rfl (ok_lt (ok_t rfl (goes0 ?_)))
  exact ⟨hfresh, hIS, (by simpa [ov, ova, i_up, a_up] using hbegun), (by first | exact htold | exact (htold.putO (by simp only [List.forall_mem_cons]; (repeat' apply And.intro); all_goals first | exact (by unfold Lo; omega) | exact fun _ h => absurd h (List.not_mem_nil))).w (by simp [ov, ova, i_up, a_up]) | exact ((htold.putO (by simp only [List.forall_mem_cons]; (repeat' apply And.intro); all_goals first | exact (by unfold Lo; omega) | exact fun _ h => absurd h (List.not_mem_nil))).putO (by simp only [List.forall_mem_cons]; (repeat' apply And.intro); all_goals first | exact (by unfold Lo; omega) | exact fun _ h => absurd h (List.not_mem_nil))).w (by simp [ov, ova, i_up, a_up]) | exact ((htold.putI (by simp only [List.forall_mem_cons]; (repeat' apply And.intro); all_goals first | exact (by unfold Lo; omega) | exact fun _ h => absurd h (List.not_mem_nil)) (by simp only [List.forall_mem_cons]; (repeat' apply And.intro); all_goals first | exact Or.inr rfl | exact Or.inl (by unfold Lo; omega) | exact fun _ h => absurd h (List.not_mem_nil))).putI (by simp only [List.forall_mem_cons]; (repeat' apply And.intro); all_goals first | exact (by unfold Lo; omega) | exact fun _ h => absurd h (List.not_mem_nil)) (by simp only [List.forall_mem_cons]; (repeat' apply And.intro); all_goals first | exact Or.inr rfl | exact Or.inl (by unfold Lo; omega) | exact fun _ h => absurd h (List.not_mem_nil))).w (by simp [ov, ova, i_up, a_up])), (by simpa [ov, ova, i_up, a_up] using htape), (by simpa [ov, ova, i_up, a_up] using hfault), (by simpa [ov, ova, i_up, a_up] using hrowby), (by simpa [ov, ova, i_up, a_up] using hdone), (by simpa [ov, ova, i_up, a_up] using hbest), (by simpa [ov, ova, i_up, a_up] using hmore), (by simpa [ov, ova, i_up, a_up] using hhooks), (by simpa [ov, ova, i_up, a_up] using haims), (by simpa [ov, ova, i_up, a_up] using hout), hstrs, (by simpa [ov, ova, i_up, a_up] using hmost), (by simpa [ov, ova, i_up, a_up] using hfire)⟩
theorem feed_ok {l1 l14 : Int32} {t1 t14 : Nat → Int32} (h : pTape l1 l14 t1 t14) (p1 p2 p3 p4 p5 t : Int32) : Ok (f1_feed p1 p2 p3 p4 p5 l1 t1) (fun x => Ok (f14_feed p1 p2 p3 p4 p5 t l14 t14) (fun y => x.1 = y.1 ∧ y.2.1 = 0 ∧ pTape x.2.1 y.2.2.1 x.2.2 y.2.2.2)) := by
  obtain ⟨n, b, hn, rfl, rfl, hb⟩ := h
  unfold f1_feed f14_feed
  refine ok_lt ?_
  rw [show (20 : Int32) = nI 20 from rfl, show (740 : Int32) = nI 740 from rfl, nI_add]
  refine ok_if (fun h => ?_) (fun h => ?_)
  · have hn2 : n + 20 ≤ 740 := (nI_leI (by omega) (by decide)).mp h
    refine ok_sw (ok_lt (ok_t h (ok_sw ?_)))
    refine ok_b2 (four_ok hb p1 (by omega)) ?_
    rintro ⟨x1, x2⟩ ⟨y1, y2⟩ ⟨rfl, rfl, b, hb⟩
    refine ok_b2 (four_ok hb p2 (by omega)) ?_
    rintro ⟨x1, x2⟩ ⟨y1, y2⟩ ⟨rfl, rfl, b, hb⟩
    refine ok_b2 (four_ok hb p3 (by omega)) ?_
    rintro ⟨x1, x2⟩ ⟨y1, y2⟩ ⟨rfl, rfl, b, hb⟩
    refine ok_b2 (four_ok hb p4 (by omega)) ?_
    rintro ⟨x1, x2⟩ ⟨y1, y2⟩ ⟨rfl, rfl, b, hb⟩
    refine ok_b2 (four_ok hb p5 (by omega)) ?_
    rintro ⟨x1, x2⟩ ⟨y1, y2⟩ ⟨rfl, rfl, b, hb⟩
    exact ok_i (ok_i ⟨rfl, rfl, _, b, by omega, rfl, rfl, hb⟩)
  · exact ok_i (ok_lt (ok_f h (ok_i ⟨rfl, rfl, n, b, hn, rfl, rfl, hb⟩)))
theorem case0 {adS : Nat → Nat} {z L m n u v : Nat} {xs : Nat → Int32} {K : gK} {I : gI} {J : gJ} {X : gX} {A : gI} {B : gJ} {Q : gX} (hi : Inv adS z K I J X A B Q n) (ha : At L m) (hu : u ≤ 1200128 ∧ v ≤ 5501098) : Ok (w_law_j192 z L xs (z + 126) (nI m) K I J X A B Q n u v) (GoesOn adS z m u v) := by
  obtain ⟨hfresh, hIS, hbegun, htold, htape, hfault, hrowby, hdone, hbest, hmore, hhooks, haims, hout, hstrs, hmost, hfire⟩ := hi
  have hS0 := hIS.1.1
  have hS11 := hIS.1.2.1
  have hKz := hS0.1
  unfold w_law_j192
  repeat' (with_reducible first | refine ok_lt ?_ | refine ok_gdp hu ?_ | refine ok_gdp hS0 ?_ | refine ok_gdp hS11 ?_ | refine ok_gdp ha.r1 ?_ | refine ok_gdp ha.r2 ?_ | refine ok_gdp ha.r3 ?_ | refine ok_gdp ha.r4 ?_ | refine ok_gdp ha.r5 ?_ | fail)
  obtain ⟨x, hx, y, hy, e1, e2, e3⟩ := feed_ok htape (xs (nI m + (1 : Int32)).toNatClampNeg) (xs (nI m + (2 : Int32)).toNatClampNeg) (xs (nI m + (3 : Int32)).toNatClampNeg) (xs (nI m + (4 : Int32)).toNatClampNeg) (xs (nI m + (5 : Int32)).toNatClampNeg) (I 1100 (z + 126))
  refine ok_e hx ?_
  repeat' (with_reducible first | refine ok_lt ?_ | refine ok_gdp hu ?_ | refine ok_gdp hS0 ?_ | refine ok_gdp hS11 ?_ | refine ok_gdp ha.r1 ?_ | refine ok_gdp ha.r2 ?_ | refine ok_gdp ha.r3 ?_ | refine ok_gdp ha.r4 ?_ | refine ok_gdp ha.r5 ?_ | fail)
  have q1 : ov I [(1, z, x.2.1)] 1100 (z + 126) = I 1100 (z + 126) := by simp [ov, i_up]
  have q2 : ov I [(1, z, x.2.1)] 1102 (z + 126) = I 1102 (z + 126) := by simp [ov, i_up]
  have q3 : ova A [(z + 1, x.2.2)] (z + 126 + 1) = A (z + 127) := by simp [ova, a_up]
  rw [q1, q2, q3]
  refine ok_e hy (ok_lt (ok_lt (ok_t e1 (goes0 ?_))))
  exact ⟨hfresh, hIS, (by simpa [ov, ova, i_up, a_up] using hbegun), (by first | exact htold | exact (htold.putO (by simp only [List.forall_mem_cons]; (repeat' apply And.intro); all_goals first | exact (by unfold Lo; omega) | exact fun _ h => absurd h (List.not_mem_nil))).w (by simp [ov, ova, i_up, a_up]) | exact ((htold.putO (by simp only [List.forall_mem_cons]; (repeat' apply And.intro); all_goals first | exact (by unfold Lo; omega) | exact fun _ h => absurd h (List.not_mem_nil))).putO (by simp only [List.forall_mem_cons]; (repeat' apply And.intro); all_goals first | exact (by unfold Lo; omega) | exact fun _ h => absurd h (List.not_mem_nil))).w (by simp [ov, ova, i_up, a_up]) | exact ((htold.putI (by simp only [List.forall_mem_cons]; (repeat' apply And.intro); all_goals first | exact (by unfold Lo; omega) | exact fun _ h => absurd h (List.not_mem_nil)) (by simp only [List.forall_mem_cons]; (repeat' apply And.intro); all_goals first | exact Or.inr rfl | exact Or.inl (by unfold Lo; omega) | exact fun _ h => absurd h (List.not_mem_nil))).putI (by simp only [List.forall_mem_cons]; (repeat' apply And.intro); all_goals first | exact (by unfold Lo; omega) | exact fun _ h => absurd h (List.not_mem_nil)) (by simp only [List.forall_mem_cons]; (repeat' apply And.intro); all_goals first | exact Or.inr rfl | exact Or.inl (by unfold Lo; omega) | exact fun _ h => absurd h (List.not_mem_nil))).w (by simp [ov, ova, i_up, a_up])), (by simpa [ov, ova, i_up, a_up] using e3), (by simpa [ov, ova, i_up, a_up] using hfault), (by simpa [ov, ova, i_up, a_up] using hrowby), (by simpa [ov, ova, i_up, a_up] using hdone), (by simpa [ov, ova, i_up, a_up] using hbest), (by simpa [ov, ova, i_up, a_up] using hmore), (by simpa [ov, ova, i_up, a_up] using hhooks), (by simpa [ov, ova, i_up, a_up] using haims), (by simpa [ov, ova, i_up, a_up] using hout), hstrs, (by simpa [ov, ova, i_up, a_up] using hmost), (by simpa [ov, ova, i_up, a_up] using hfire)⟩
