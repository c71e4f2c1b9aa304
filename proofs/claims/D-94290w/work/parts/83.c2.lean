/-! the plain law: cases of one method a side (printed by gcase.py) -/
set_option maxRecDepth 100000
theorem pTape.zero {l l14 l2 l2' : Int32} {t1 t14 : Nat → Int32} (h : pTape l l14 t1 t14) (e : l2 = nI 0) (e' : l2' = nI 0) : pTape l2 l2' t1 t14 := by
  obtain ⟨n, b, hn, -, -, hT⟩ := h
  exact ⟨0, b, Nat.zero_le _, e, e', hT⟩
theorem case25 {adS : Nat → Nat} {z L m n u v : Nat} {xs : Nat → Int32} {K : gK} {I : gI} {J : gJ} {X : gX} {A : gI} {B : gJ} {Q : gX} (hi : Inv adS z K I J X A B Q n) (ha : At L m) (hu : u ≤ 1200128 ∧ v ≤ 5501098) : Ok (w_law_j1006 z L xs (z + 126) (nI m) K I J X A B Q n u v) (GoesOn adS z m u v) := by
  obtain ⟨hfresh, hIS, hbegun, htold, htape, hfault, hrowby, hdone, hbest, hmore, hhooks, haims, hout, hstrs, hmost, hfire⟩ := hi
  have hS0 := hIS.1.1
  have hS11 := hIS.1.2.1
  have hKz := hS0.1
  have hI := hIS
  obtain ⟨-, ⟨hK7, hX9⟩, ⟨hS16, hX13⟩, ⟨hS60, hX15⟩, ⟨hS85, hX36⟩, ⟨⟨hS92, hS97, hS102, hS107⟩, hQ0, hQ1, hQ2, hQ3⟩, hG, -⟩ := hI
  have htd := htold.yard
  obtain ⟨S, hS, y, M, C, R, P, hy, hz, hsh, hm, hY⟩ := htd
  have hmen : ∀ (j m : Nat), (Q (y + 1)) j = some m → K m = some (.inl 12) := fun j m h => (hm j m h).1
  have hnda : nda [(z + 86), (z + 87), (z + 88), (z + 89), (y + 2), (y + 3)] := by
    have h2 := hz 2 (by decide)
    have h3 := hz 3 (by decide)
    unfold Fz at h2 h3
    simp [nda]
    omega
  unfold w_law_j1006
  repeat' (with_reducible first | refine ok_lt ?_ | refine ok_gdp hu ?_ | refine ok_gdp hS0 ?_ | refine ok_gdp hS11 ?_ | refine ok_gdp ha.r1 ?_ | refine ok_gdp ha.r2 ?_ | refine ok_gdp ha.r3 ?_ | refine ok_gdp ha.r4 ?_ | refine ok_gdp ha.r5 ?_ | fail)
  refine ok_e hy ?_
  repeat' (with_reducible first | refine ok_lt ?_ | refine ok_gdp hu ?_ | refine ok_gdp hS0 ?_ | refine ok_gdp hK7 ?_ | refine ok_gdp hS16 ?_ | refine ok_gdp hS60 ?_ | refine ok_gdp hS85 ?_ | refine ok_gdp hS92 ?_ | refine ok_gdp hS97 ?_ | refine ok_gdp hS102 ?_ | refine ok_gdp hS107 ?_ | refine ok_gdp hX9 ?_ | refine ok_gdp hX13 ?_ | refine ok_gdp hX15 ?_ | refine ok_gdp hX36 ?_ | refine ok_gdp hG ?_ | refine ok_gdp hsh ?_ | refine ok_gdp hmen ?_ | refine ok_gdp hnda ?_ | fail)
  obtain ⟨x, ex, q, eq, e1, e2, e3, e4⟩ := give_eq hbegun hY (xs (nI m + (1 : Int32)).toNatClampNeg) y (I 905 (z + 85)) (I 1170 (z + 126)) (I 1171 (z + 126)) (I 1100 (z + 126)) (X 904 (z + 85)) (A (z + 86)) (A (z + 87)) (A (z + 88)) (A (z + 89)) (A (z + 158)) (A (z + 160)) (A (z + 159)) (A (z + 161)) (A (z + 162)) (A (z + 163))
  refine ok_e (x := x) (by exact ex) ?_
  repeat' (with_reducible first | refine ok_lt ?_ | refine ok_gdp hu ?_ | refine ok_gdp hS0 ?_ | refine ok_gdp hS11 ?_ | refine ok_gdp ha.r1 ?_ | refine ok_gdp ha.r2 ?_ | refine ok_gdp ha.r3 ?_ | refine ok_gdp ha.r4 ?_ | refine ok_gdp ha.r5 ?_ | fail)
  rw [ova_e4]
  refine ok_gdp (Sh.ov (by rfl) hS11) ?_
  refine ok_e (x := q) (by simpa [ov, i_up, ova, a_up] using eq) ?_
  repeat' (with_reducible first | refine ok_lt ?_ | refine ok_gdp hu ?_ | refine ok_gdp hS0 ?_ | refine ok_gdp hS11 ?_ | refine ok_gdp ha.r1 ?_ | refine ok_gdp ha.r2 ?_ | refine ok_gdp ha.r3 ?_ | refine ok_gdp ha.r4 ?_ | refine ok_gdp ha.r5 ?_ | fail)
  refine ok_t e1 (goes0 ?_)
  exact ⟨hfresh, (IS_ov hIS _ (by rfl)), (Or.inr (by simpa [ov, i_up, ova, a_up] using e3)), ((((htold).put (by simp only [List.forall_mem_cons]; (repeat' apply And.intro); all_goals first | exact (by unfold Lo; omega) | exact fun _ h => absurd h (List.not_mem_nil)) (by simp only [List.forall_mem_cons]; (repeat' apply And.intro); all_goals first | exact (by unfold Lo; omega) | exact (by decide) | exact fun _ h => absurd h (List.not_mem_nil)) (by simp only [List.forall_mem_cons]; (repeat' apply And.intro); all_goals first | exact Or.inr rfl | exact Or.inl (by unfold Lo; omega) | exact fun _ h => absurd h (List.not_mem_nil))).putI (by simp only [List.forall_mem_cons]; (repeat' apply And.intro); all_goals first | exact (by unfold Lo; omega) | exact fun _ h => absurd h (List.not_mem_nil)) (by simp only [List.forall_mem_cons]; (repeat' apply And.intro); all_goals first | exact Or.inr rfl | exact Or.inl (by unfold Lo; omega) | exact fun _ h => absurd h (List.not_mem_nil))).w (by simp [ov, i_up, ova, a_up, e3, e4, layF_1])), (by simpa [ov, ova, i_up, a_up] using htape), (by simpa [ov, ova, i_up, a_up] using hfault), (by simpa [ov, ova, i_up, a_up] using hrowby), (by simpa [ov, ova, i_up, a_up] using hdone), (by simpa [ov, ova, i_up, a_up] using hbest), (by simpa [ov, ova, i_up, a_up] using hmore), (by simpa [ov, ova, i_up, a_up] using hhooks), (by simpa [ov, ova, i_up, a_up] using haims), (by simpa [ov, ova, i_up, a_up] using hout), hstrs, (by simpa [ov, ova, i_up, a_up] using hmost), (by simpa [ov, ova, i_up, a_up] using hfire)⟩
theorem case18 {adS : Nat → Nat} {z L m n u v : Nat} {xs : Nat → Int32} {K : gK} {I : gI} {J : gJ} {X : gX} {A : gI} {B : gJ} {Q : gX} (hi : Inv adS z K I J X A B Q n) (ha : At L m) (hu : u ≤ 1200128 ∧ v ≤ 5501098) : Ok (w_law_j771 z L xs (z + 126) (nI m) K I J X A B Q n u v) (GoesOn adS z m u v) := by
  obtain ⟨hfresh, hIS, hbegun, htold, htape, hfault, hrowby, hdone, hbest, hmore, hhooks, haims, hout, hstrs, hmost, hfire⟩ := hi
  have hS0 := hIS.1.1
  have hS11 := hIS.1.2.1
  have hKz := hS0.1
  have hI := hIS
  obtain ⟨-, ⟨hK7, hX9⟩, ⟨hS16, hX13⟩, ⟨hS60, hX15⟩, ⟨hS85, hX36⟩, ⟨⟨hS92, hS97, hS102, hS107⟩, hQ0, hQ1, hQ2, hQ3⟩, hG, -⟩ := hI
  have htp := htape
  obtain ⟨n0, bb, hn740, el, el14, hTP⟩ := htp
  unfold w_law_j771
  repeat' (with_reducible first | refine ok_lt ?_ | refine ok_gdp hu ?_ | refine ok_gdp hS0 ?_ | refine ok_gdp hS11 ?_ | refine ok_gdp ha.r1 ?_ | refine ok_gdp ha.r2 ?_ | refine ok_gdp ha.r3 ?_ | refine ok_gdp ha.r4 ?_ | refine ok_gdp ha.r5 ?_ | fail)
  repeat' (with_reducible first | refine ok_lt ?_ | refine ok_gdp hu ?_ | refine ok_gdp hS0 ?_ | refine ok_gdp hK7 ?_ | refine ok_gdp hS16 ?_ | refine ok_gdp hS60 ?_ | refine ok_gdp hS85 ?_ | refine ok_gdp hS92 ?_ | refine ok_gdp hS97 ?_ | refine ok_gdp hS102 ?_ | refine ok_gdp hS107 ?_ | refine ok_gdp hX9 ?_ | refine ok_gdp hX13 ?_ | refine ok_gdp hX15 ?_ | refine ok_gdp hX36 ?_ | refine ok_gdp hG ?_ | fail)
  obtain ⟨x, ex, q, eq, e1, ez, e2, etp, ek⟩ := hooks_eq hTP hn740 (xs (nI m + (1 : Int32)).toNatClampNeg) (I 2 z) (I 34 z) (I 1162 (z + 126)) (I 1161 (z + 126)) (I 1100 (z + 126)) (A (z + 78)) (A (z + 155)) (A (z + 154)) (A (z + 156)) hhooks
  refine ok_e (x := x) (by rw [el]; exact ex) ?_
  repeat' (with_reducible first | refine ok_lt ?_ | refine ok_gdp hu ?_ | refine ok_gdp hS0 ?_ | refine ok_gdp hS11 ?_ | refine ok_gdp ha.r1 ?_ | refine ok_gdp ha.r2 ?_ | refine ok_gdp ha.r3 ?_ | refine ok_gdp ha.r4 ?_ | refine ok_gdp ha.r5 ?_ | fail)
  refine ok_e (x := q) (by simpa [ov, i_up, ova, a_up, el14] using eq) ?_
  repeat' (with_reducible first | refine ok_lt ?_ | refine ok_gdp hu ?_ | refine ok_gdp hS0 ?_ | refine ok_gdp hS11 ?_ | refine ok_gdp ha.r1 ?_ | refine ok_gdp ha.r2 ?_ | refine ok_gdp ha.r3 ?_ | refine ok_gdp ha.r4 ?_ | refine ok_gdp ha.r5 ?_ | fail)
  refine ok_t e1 (goes0 ?_)
  exact ⟨hfresh, hIS, (by simpa [ov, ova, i_up, a_up] using hbegun), ((((htold).putI (by simp only [List.forall_mem_cons]; (repeat' apply And.intro); all_goals first | exact (by unfold Lo; omega) | exact fun _ h => absurd h (List.not_mem_nil)) (by simp only [List.forall_mem_cons]; (repeat' apply And.intro); all_goals first | exact Or.inr rfl | exact Or.inl (by unfold Lo; omega) | exact fun _ h => absurd h (List.not_mem_nil))).putI (by simp only [List.forall_mem_cons]; (repeat' apply And.intro); all_goals first | exact (by unfold Lo; omega) | exact fun _ h => absurd h (List.not_mem_nil)) (by simp only [List.forall_mem_cons]; (repeat' apply And.intro); all_goals first | exact Or.inr rfl | exact Or.inl (by unfold Lo; omega) | exact fun _ h => absurd h (List.not_mem_nil))).w (by simp [ov, i_up, ova, a_up])), (by simpa [ov, i_up, ova, a_up] using htape.zero ez etp), (by simpa [ov, ova, i_up, a_up] using hfault), (by simpa [ov, ova, i_up, a_up] using hrowby), (by simpa [ov, ova, i_up, a_up] using hdone), (by simpa [ov, ova, i_up, a_up] using hbest), (by simpa [ov, ova, i_up, a_up] using hmore), (by simpa [ov, i_up, ova, a_up] using ek), (by simpa [ov, ova, i_up, a_up] using haims), (by simpa [ov, ova, i_up, a_up] using hout), hstrs, (by simpa [ov, ova, i_up, a_up] using hmost), (by simpa [ov, ova, i_up, a_up] using hfire)⟩
theorem case9 {adS : Nat → Nat} {z L m n u v : Nat} {xs : Nat → Int32} {K : gK} {I : gI} {J : gJ} {X : gX} {A : gI} {B : gJ} {Q : gX} (hi : Inv adS z K I J X A B Q n) (ha : At L m) (hu : u ≤ 1200128 ∧ v ≤ 5501098) : Ok (w_law_j539 z (z + 126) (nI m) K I J X A B Q n u v) (GoesOn adS z m u v) := by
  obtain ⟨hfresh, hIS, hbegun, htold, htape, hfault, hrowby, hdone, hbest, hmore, hhooks, haims, hout, hstrs, hmost, hfire⟩ := hi
  have hS0 := hIS.1.1
  have hS11 := hIS.1.2.1
  have hKz := hS0.1
  have hI := hIS
  obtain ⟨-, ⟨hK7, hX9⟩, ⟨hS16, hX13⟩, ⟨hS60, hX15⟩, ⟨hS85, hX36⟩, ⟨⟨hS92, hS97, hS102, hS107⟩, hQ0, hQ1, hQ2, hQ3⟩, hG, -⟩ := hI
  have htd := htold.yard
  obtain ⟨S, hS, y, M, C, R, P, hy, hz, hsh, hm, hY⟩ := htd
  have hmen : ∀ (j m : Nat), (Q (y + 1)) j = some m → K m = some (.inl 12) := fun j m h => (hm j m h).1
  have htp := htape
  obtain ⟨n0, bb, hn740, el, el14, hTP⟩ := htp
  unfold w_law_j539
  repeat' (with_reducible first | refine ok_lt ?_ | refine ok_gdp hu ?_ | refine ok_gdp hS0 ?_ | refine ok_gdp hS11 ?_ | refine ok_gdp ha.r1 ?_ | refine ok_gdp ha.r2 ?_ | refine ok_gdp ha.r3 ?_ | refine ok_gdp ha.r4 ?_ | refine ok_gdp ha.r5 ?_ | fail)
  refine ok_e hy ?_
  repeat' (with_reducible first | refine ok_lt ?_ | refine ok_gdp hu ?_ | refine ok_gdp hS0 ?_ | refine ok_gdp hK7 ?_ | refine ok_gdp hS16 ?_ | refine ok_gdp hS60 ?_ | refine ok_gdp hS85 ?_ | refine ok_gdp hS92 ?_ | refine ok_gdp hS97 ?_ | refine ok_gdp hS102 ?_ | refine ok_gdp hS107 ?_ | refine ok_gdp hX9 ?_ | refine ok_gdp hX13 ?_ | refine ok_gdp hX15 ?_ | refine ok_gdp hX36 ?_ | refine ok_gdp hG ?_ | refine ok_gdp hsh ?_ | refine ok_gdp hmen ?_ | fail)
  obtain ⟨x, ex, q, eq, e1, ez, ⟨e2, etp, e3, e4⟩⟩ := period_eq hTP hn740 hbegun hY y (I 2 z) (I 18 z) (I 702 (z + 16)) (I 703 (z + 16)) (I 704 (z + 16)) (I 705 (z + 16)) (I 714 (z + 16)) (I 715 (z + 16)) (I 716 (z + 16)) (I 717 (z + 16)) (I 718 (z + 16)) (X 701 (z + 16)) (A (z + 17)) (A (z + 18)) (A (z + 19)) (A (z + 20)) (A (z + 21)) (A (z + 22)) (A (z + 23)) (A (z + 70)) (I 1100 (z + 126)) (I 1133 (z + 126)) (A (z + 136))
  refine ok_e (x := x) (by rw [el]; exact ex) ?_
  repeat' (with_reducible first | refine ok_lt ?_ | refine ok_gdp hu ?_ | refine ok_gdp hS0 ?_ | refine ok_gdp hS11 ?_ | refine ok_gdp ha.r1 ?_ | refine ok_gdp ha.r2 ?_ | refine ok_gdp ha.r3 ?_ | refine ok_gdp ha.r4 ?_ | refine ok_gdp ha.r5 ?_ | fail)
  refine ok_gdp (Sh.ov (by rfl) hS11) ?_
  refine ok_e (x := q) (by simpa [ov, i_up, ova, a_up, el14] using eq) ?_
  repeat' (with_reducible first | refine ok_lt ?_ | refine ok_gdp hu ?_ | refine ok_gdp hS0 ?_ | refine ok_gdp hS11 ?_ | refine ok_gdp ha.r1 ?_ | refine ok_gdp ha.r2 ?_ | refine ok_gdp ha.r3 ?_ | refine ok_gdp ha.r4 ?_ | refine ok_gdp ha.r5 ?_ | fail)
  refine ok_t e1 (goes0 ?_)
  exact ⟨hfresh, (IS_ov hIS _ (by rfl)), (Or.inr (by simpa [ov, i_up, ova, a_up] using e3)), ((((htold).put (by simp only [List.forall_mem_cons]; (repeat' apply And.intro); all_goals first | exact (by unfold Lo; omega) | exact fun _ h => absurd h (List.not_mem_nil)) (by simp only [List.forall_mem_cons]; (repeat' apply And.intro); all_goals first | exact (by unfold Lo; omega) | exact (by decide) | exact fun _ h => absurd h (List.not_mem_nil)) (by simp only [List.forall_mem_cons]; (repeat' apply And.intro); all_goals first | exact Or.inr rfl | exact Or.inl (by unfold Lo; omega) | exact fun _ h => absurd h (List.not_mem_nil))).putI (by simp only [List.forall_mem_cons]; (repeat' apply And.intro); all_goals first | exact (by unfold Lo; omega) | exact fun _ h => absurd h (List.not_mem_nil)) (by simp only [List.forall_mem_cons]; (repeat' apply And.intro); all_goals first | exact Or.inr rfl | exact Or.inl (by unfold Lo; omega) | exact fun _ h => absurd h (List.not_mem_nil))).w (by simp [ov, i_up, ova, a_up, e3, e4, layF_1])), (by simpa [ov, i_up, ova, a_up] using htape.zero ez etp), (by simpa [ov, ova, i_up, a_up] using hfault), (by simpa [ov, ova, i_up, a_up] using hrowby), (by simpa [ov, ova, i_up, a_up] using hdone), (by simpa [ov, ova, i_up, a_up] using hbest), (by simpa [ov, ova, i_up, a_up] using hmore), (by simpa [ov, ova, i_up, a_up] using hhooks), (by simpa [ov, ova, i_up, a_up] using haims), (by simpa [ov, ova, i_up, a_up] using hout), hstrs, (by simpa [ov, ova, i_up, a_up] using hmost), (by simpa [ov, ova, i_up, a_up] using hfire)⟩
theorem case12 {adS : Nat → Nat} {z L m n u v : Nat} {xs : Nat → Int32} {K : gK} {I : gI} {J : gJ} {X : gX} {A : gI} {B : gJ} {Q : gX} (hi : Inv adS z K I J X A B Q n) (ha : At L m) (hu : u ≤ 1200128 ∧ v ≤ 5501098) : Ok (w_law_j590 z L xs (z + 126) (nI m) K I J X A B Q n u v) (GoesOn adS z m u v) := by
  obtain ⟨hfresh, hIS, hbegun, htold, htape, hfault, hrowby, hdone, hbest, hmore, hhooks, haims, hout, hstrs, hmost, hfire⟩ := hi
  have hS0 := hIS.1.1
  have hS11 := hIS.1.2.1
  have hKz := hS0.1
  have hI := hIS
  obtain ⟨-, ⟨hK7, hX9⟩, ⟨hS16, hX13⟩, ⟨hS60, hX15⟩, ⟨hS85, hX36⟩, ⟨⟨hS92, hS97, hS102, hS107⟩, hQ0, hQ1, hQ2, hQ3⟩, hG, -⟩ := hI
  have htd := htold.yard
  obtain ⟨S, hS, y, M, C, R, P, hy, hz, hsh, hm, hY⟩ := htd
  have hmen : ∀ (j m : Nat), (Q (y + 1)) j = some m → K m = some (.inl 12) := fun j m h => (hm j m h).1
  have htp := htape
  obtain ⟨n0, bb, hn740, el, el14, hTP⟩ := htp
  unfold w_law_j590
  repeat' (with_reducible first | refine ok_lt ?_ | refine ok_gdp hu ?_ | refine ok_gdp hS0 ?_ | refine ok_gdp hS11 ?_ | refine ok_gdp ha.r1 ?_ | refine ok_gdp ha.r2 ?_ | refine ok_gdp ha.r3 ?_ | refine ok_gdp ha.r4 ?_ | refine ok_gdp ha.r5 ?_ | fail)
  refine ok_e hy ?_
  repeat' (with_reducible first | refine ok_lt ?_ | refine ok_gdp hu ?_ | refine ok_gdp hS0 ?_ | refine ok_gdp hK7 ?_ | refine ok_gdp hS16 ?_ | refine ok_gdp hS60 ?_ | refine ok_gdp hS85 ?_ | refine ok_gdp hS92 ?_ | refine ok_gdp hS97 ?_ | refine ok_gdp hS102 ?_ | refine ok_gdp hS107 ?_ | refine ok_gdp hX9 ?_ | refine ok_gdp hX13 ?_ | refine ok_gdp hX15 ?_ | refine ok_gdp hX36 ?_ | refine ok_gdp hG ?_ | refine ok_gdp hsh ?_ | refine ok_gdp hmen ?_ | fail)
  obtain ⟨x, ex, q, eq, e1, ez, ⟨e2, etp, e3, e4⟩⟩ := running_eq hTP hn740 hbegun hY (xs (nI m + (1 : Int32)).toNatClampNeg) y (I 2 z) (I 18 z) (I 802 (z + 60)) (I 803 (z + 60)) (I 804 (z + 60)) (I 805 (z + 60)) (I 809 (z + 60)) (X 801 (z + 60)) (A (z + 61)) (A (z + 62)) (A (z + 63)) (A (z + 64)) (A (z + 70)) (I 1100 (z + 126)) (I 1133 (z + 126)) (I 1134 (z + 126)) (I 1135 (z + 126)) (I 1136 (z + 126)) (I 1137 (z + 126)) (I 1138 (z + 126)) (I 1139 (z + 126)) (I 1140 (z + 126)) (I 1141 (z + 126)) (I 1142 (z + 126)) (A (z + 136)) (A (z + 137)) (A (z + 138)) (A (z + 139)) (A (z + 140)) (A (z + 141)) (A (z + 142)) (A (z + 143)) (A (z + 144))
  refine ok_e (x := x) (by rw [el]; exact ex) ?_
  repeat' (with_reducible first | refine ok_lt ?_ | refine ok_gdp hu ?_ | refine ok_gdp hS0 ?_ | refine ok_gdp hS11 ?_ | refine ok_gdp ha.r1 ?_ | refine ok_gdp ha.r2 ?_ | refine ok_gdp ha.r3 ?_ | refine ok_gdp ha.r4 ?_ | refine ok_gdp ha.r5 ?_ | fail)
  refine ok_gdp (Sh.ov (by rfl) hS11) ?_
  refine ok_e (x := q) (by simpa [ov, i_up, ova, a_up, el14] using eq) ?_
  repeat' (with_reducible first | refine ok_lt ?_ | refine ok_gdp hu ?_ | refine ok_gdp hS0 ?_ | refine ok_gdp hS11 ?_ | refine ok_gdp ha.r1 ?_ | refine ok_gdp ha.r2 ?_ | refine ok_gdp ha.r3 ?_ | refine ok_gdp ha.r4 ?_ | refine ok_gdp ha.r5 ?_ | fail)
  refine ok_t e1 (goes0 ?_)
  exact ⟨hfresh, (IS_ov hIS _ (by rfl)), (Or.inr (by simpa [ov, i_up, ova, a_up] using e3)), ((((htold).put (by simp only [List.forall_mem_cons]; (repeat' apply And.intro); all_goals first | exact (by unfold Lo; omega) | exact fun _ h => absurd h (List.not_mem_nil)) (by simp only [List.forall_mem_cons]; (repeat' apply And.intro); all_goals first | exact (by unfold Lo; omega) | exact (by decide) | exact fun _ h => absurd h (List.not_mem_nil)) (by simp only [List.forall_mem_cons]; (repeat' apply And.intro); all_goals first | exact Or.inr rfl | exact Or.inl (by unfold Lo; omega) | exact fun _ h => absurd h (List.not_mem_nil))).putI (by simp only [List.forall_mem_cons]; (repeat' apply And.intro); all_goals first | exact (by unfold Lo; omega) | exact fun _ h => absurd h (List.not_mem_nil)) (by simp only [List.forall_mem_cons]; (repeat' apply And.intro); all_goals first | exact Or.inr rfl | exact Or.inl (by unfold Lo; omega) | exact fun _ h => absurd h (List.not_mem_nil))).w (by simp [ov, i_up, ova, a_up, e3, e4, layF_1])), (by simpa [ov, i_up, ova, a_up] using htape.zero ez etp), (by simpa [ov, ova, i_up, a_up] using hfault), (by simpa [ov, ova, i_up, a_up] using hrowby), (by simpa [ov, ova, i_up, a_up] using hdone), (by simpa [ov, ova, i_up, a_up] using hbest), (by simpa [ov, ova, i_up, a_up] using hmore), (by simpa [ov, ova, i_up, a_up] using hhooks), (by simpa [ov, ova, i_up, a_up] using haims), (by simpa [ov, ova, i_up, a_up] using hout), hstrs, (by simpa [ov, ova, i_up, a_up] using hmost), (by simpa [ov, ova, i_up, a_up] using hfire)⟩
theorem case17 {adS : Nat → Nat} {z L m n u v : Nat} {xs : Nat → Int32} {K : gK} {I : gI} {J : gJ} {X : gX} {A : gI} {B : gJ} {Q : gX} (hi : Inv adS z K I J X A B Q n) (ha : At L m) (hu : u ≤ 1200128 ∧ v ≤ 5501098) : Ok (w_law_j758 z (z + 126) (nI m) K I J X A B Q n u v) (GoesOn adS z m u v) := by
  obtain ⟨hfresh, hIS, hbegun, htold, htape, hfault, hrowby, hdone, hbest, hmore, hhooks, haims, hout, hstrs, hmost, hfire⟩ := hi
  have hS0 := hIS.1.1
  have hS11 := hIS.1.2.1
  have hKz := hS0.1
  have hI := hIS
  obtain ⟨-, ⟨hK7, hX9⟩, ⟨hS16, hX13⟩, ⟨hS60, hX15⟩, ⟨hS85, hX36⟩, ⟨⟨hS92, hS97, hS102, hS107⟩, hQ0, hQ1, hQ2, hQ3⟩, hG, -⟩ := hI
  have htd := htold.yard
  obtain ⟨S, hS, y, M, C, R, P, hy, hz, hsh, hm, hY⟩ := htd
  have hmen : ∀ (j m : Nat), (Q (y + 1)) j = some m → K m = some (.inl 12) := fun j m h => (hm j m h).1
  have htp := htape
  obtain ⟨n0, bb, hn740, el, el14, hTP⟩ := htp
  unfold w_law_j758
  repeat' (with_reducible first | refine ok_lt ?_ | refine ok_gdp hu ?_ | refine ok_gdp hS0 ?_ | refine ok_gdp hS11 ?_ | refine ok_gdp ha.r1 ?_ | refine ok_gdp ha.r2 ?_ | refine ok_gdp ha.r3 ?_ | refine ok_gdp ha.r4 ?_ | refine ok_gdp ha.r5 ?_ | fail)
  refine ok_e hy ?_
  repeat' (with_reducible first | refine ok_lt ?_ | refine ok_gdp hu ?_ | refine ok_gdp hS0 ?_ | refine ok_gdp hK7 ?_ | refine ok_gdp hS16 ?_ | refine ok_gdp hS60 ?_ | refine ok_gdp hS85 ?_ | refine ok_gdp hS92 ?_ | refine ok_gdp hS97 ?_ | refine ok_gdp hS102 ?_ | refine ok_gdp hS107 ?_ | refine ok_gdp hX9 ?_ | refine ok_gdp hX13 ?_ | refine ok_gdp hX15 ?_ | refine ok_gdp hX36 ?_ | refine ok_gdp hG ?_ | refine ok_gdp hsh ?_ | refine ok_gdp hmen ?_ | fail)
  obtain ⟨x, ex, q, eq, e1, ez, ⟨e2, etp, e3, e4⟩⟩ := relief_eq hTP hn740 hbegun hY (I 2 z) (I 18 z) (A (z + 70)) (A (z + 77)) (I 1100 (z + 126)) (I 1133 (z + 126)) (A (z + 136)) (A (z + 153))
  refine ok_e (x := x) (by rw [el]; exact ex) ?_
  repeat' (with_reducible first | refine ok_lt ?_ | refine ok_gdp hu ?_ | refine ok_gdp hS0 ?_ | refine ok_gdp hS11 ?_ | refine ok_gdp ha.r1 ?_ | refine ok_gdp ha.r2 ?_ | refine ok_gdp ha.r3 ?_ | refine ok_gdp ha.r4 ?_ | refine ok_gdp ha.r5 ?_ | fail)
  refine ok_e (x := q) (by simpa [ov, i_up, ova, a_up, el14] using eq) ?_
  repeat' (with_reducible first | refine ok_lt ?_ | refine ok_gdp hu ?_ | refine ok_gdp hS0 ?_ | refine ok_gdp hS11 ?_ | refine ok_gdp ha.r1 ?_ | refine ok_gdp ha.r2 ?_ | refine ok_gdp ha.r3 ?_ | refine ok_gdp ha.r4 ?_ | refine ok_gdp ha.r5 ?_ | fail)
  refine ok_t e1 (goes0 ?_)
  exact ⟨hfresh, hIS, (Or.inr (by simpa [ov, i_up, ova, a_up] using e3)), ((((htold).putI (by simp only [List.forall_mem_cons]; (repeat' apply And.intro); all_goals first | exact (by unfold Lo; omega) | exact fun _ h => absurd h (List.not_mem_nil)) (by simp only [List.forall_mem_cons]; (repeat' apply And.intro); all_goals first | exact Or.inr rfl | exact Or.inl (by unfold Lo; omega) | exact fun _ h => absurd h (List.not_mem_nil))).putI (by simp only [List.forall_mem_cons]; (repeat' apply And.intro); all_goals first | exact (by unfold Lo; omega) | exact fun _ h => absurd h (List.not_mem_nil)) (by simp only [List.forall_mem_cons]; (repeat' apply And.intro); all_goals first | exact Or.inr rfl | exact Or.inl (by unfold Lo; omega) | exact fun _ h => absurd h (List.not_mem_nil))).w (by simp [ov, i_up, ova, a_up, e3, e4, layF_1])), (by simpa [ov, i_up, ova, a_up] using htape.zero ez etp), (by simpa [ov, ova, i_up, a_up] using hfault), (by simpa [ov, ova, i_up, a_up] using hrowby), (by simpa [ov, ova, i_up, a_up] using hdone), (by simpa [ov, ova, i_up, a_up] using hbest), (by simpa [ov, ova, i_up, a_up] using hmore), (by simpa [ov, ova, i_up, a_up] using hhooks), (by simpa [ov, ova, i_up, a_up] using haims), (by simpa [ov, ova, i_up, a_up] using hout), hstrs, (by simpa [ov, ova, i_up, a_up] using hmost), (by simpa [ov, ova, i_up, a_up] using hfire)⟩
theorem case15 {adS : Nat → Nat} {z L m n u v : Nat} {xs : Nat → Int32} {K : gK} {I : gI} {J : gJ} {X : gX} {A : gI} {B : gJ} {Q : gX} (hi : Inv adS z K I J X A B Q n) (ha : At L m) (hu : u ≤ 1200128 ∧ v ≤ 5501098) : Ok (w_law_j708 z L xs (z + 126) (nI m) K I J X A B Q n u v) (GoesOn adS z m u v) := by
  obtain ⟨hfresh, hIS, hbegun, htold, htape, hfault, hrowby, hdone, hbest, hmore, hhooks, haims, hout, hstrs, hmost, hfire⟩ := hi
  have hS0 := hIS.1.1
  have hS11 := hIS.1.2.1
  have hKz := hS0.1
  have hI := hIS
  obtain ⟨-, ⟨hK7, hX9⟩, ⟨hS16, hX13⟩, ⟨hS60, hX15⟩, ⟨hS85, hX36⟩, ⟨⟨hS92, hS97, hS102, hS107⟩, hQ0, hQ1, hQ2, hQ3⟩, hG, -⟩ := hI
  have htd := htold.yard
  obtain ⟨S, hS, y, M, C, R, P, hy, hz, hsh, hm, hY⟩ := htd
  have hmen : ∀ (j m : Nat), (Q (y + 1)) j = some m → K m = some (.inl 12) := fun j m h => (hm j m h).1
  have htp := htape
  obtain ⟨n0, bb, hn740, el, el14, hTP⟩ := htp
  unfold w_law_j708
  repeat' (with_reducible first | refine ok_lt ?_ | refine ok_gdp hu ?_ | refine ok_gdp hS0 ?_ | refine ok_gdp hS11 ?_ | refine ok_gdp ha.r1 ?_ | refine ok_gdp ha.r2 ?_ | refine ok_gdp ha.r3 ?_ | refine ok_gdp ha.r4 ?_ | refine ok_gdp ha.r5 ?_ | fail)
  refine ok_e hy ?_
  repeat' (with_reducible first | refine ok_lt ?_ | refine ok_gdp hu ?_ | refine ok_gdp hS0 ?_ | refine ok_gdp hK7 ?_ | refine ok_gdp hS16 ?_ | refine ok_gdp hS60 ?_ | refine ok_gdp hS85 ?_ | refine ok_gdp hS92 ?_ | refine ok_gdp hS97 ?_ | refine ok_gdp hS102 ?_ | refine ok_gdp hS107 ?_ | refine ok_gdp hX9 ?_ | refine ok_gdp hX13 ?_ | refine ok_gdp hX15 ?_ | refine ok_gdp hX36 ?_ | refine ok_gdp hG ?_ | refine ok_gdp hsh ?_ | refine ok_gdp hmen ?_ | fail)
  obtain ⟨x, ex, q, eq, e1, ez, ⟨e2, etp, e3, e4⟩, ek⟩ := more_eq hTP hn740 hbegun hY (xs (nI m + (1 : Int32)).toNatClampNeg) y (I 2 z) (I 18 z) (I 702 (z + 16)) (I 703 (z + 16)) (I 704 (z + 16)) (I 705 (z + 16)) (I 714 (z + 16)) (I 715 (z + 16)) (I 716 (z + 16)) (I 717 (z + 16)) (I 718 (z + 16)) (X 701 (z + 16)) (A (z + 17)) (A (z + 18)) (A (z + 19)) (A (z + 20)) (A (z + 21)) (A (z + 22)) (A (z + 23)) (A (z + 70)) (I 1100 (z + 126)) (I 1133 (z + 126)) (A (z + 136)) (A (z + 151)) hmore
  refine ok_e (x := x) (by rw [el]; exact ex) ?_
  repeat' (with_reducible first | refine ok_lt ?_ | refine ok_gdp hu ?_ | refine ok_gdp hS0 ?_ | refine ok_gdp hS11 ?_ | refine ok_gdp ha.r1 ?_ | refine ok_gdp ha.r2 ?_ | refine ok_gdp ha.r3 ?_ | refine ok_gdp ha.r4 ?_ | refine ok_gdp ha.r5 ?_ | fail)
  refine ok_gdp (Sh.ov (by rfl) hS11) ?_
  refine ok_e (x := q) (by simpa [ov, i_up, ova, a_up, el14] using eq) ?_
  repeat' (with_reducible first | refine ok_lt ?_ | refine ok_gdp hu ?_ | refine ok_gdp hS0 ?_ | refine ok_gdp hS11 ?_ | refine ok_gdp ha.r1 ?_ | refine ok_gdp ha.r2 ?_ | refine ok_gdp ha.r3 ?_ | refine ok_gdp ha.r4 ?_ | refine ok_gdp ha.r5 ?_ | fail)
  refine ok_t e1 (goes0 ?_)
  exact ⟨hfresh, (IS_ov hIS _ (by rfl)), (Or.inr (by simpa [ov, i_up, ova, a_up] using e3)), ((((htold).put (by simp only [List.forall_mem_cons]; (repeat' apply And.intro); all_goals first | exact (by unfold Lo; omega) | exact fun _ h => absurd h (List.not_mem_nil)) (by simp only [List.forall_mem_cons]; (repeat' apply And.intro); all_goals first | exact (by unfold Lo; omega) | exact (by decide) | exact fun _ h => absurd h (List.not_mem_nil)) (by simp only [List.forall_mem_cons]; (repeat' apply And.intro); all_goals first | exact Or.inr rfl | exact Or.inl (by unfold Lo; omega) | exact fun _ h => absurd h (List.not_mem_nil))).putI (by simp only [List.forall_mem_cons]; (repeat' apply And.intro); all_goals first | exact (by unfold Lo; omega) | exact fun _ h => absurd h (List.not_mem_nil)) (by simp only [List.forall_mem_cons]; (repeat' apply And.intro); all_goals first | exact Or.inr rfl | exact Or.inl (by unfold Lo; omega) | exact fun _ h => absurd h (List.not_mem_nil))).w (by simp [ov, i_up, ova, a_up, e3, e4, layF_1])), (by simpa [ov, i_up, ova, a_up] using htape.zero ez etp), (by simpa [ov, ova, i_up, a_up] using hfault), (by simpa [ov, ova, i_up, a_up] using hrowby), (by simpa [ov, ova, i_up, a_up] using hdone), (by simpa [ov, ova, i_up, a_up] using hbest), (by simpa [ov, i_up, ova, a_up] using ek), (by simpa [ov, ova, i_up, a_up] using hhooks), (by simpa [ov, ova, i_up, a_up] using haims), (by simpa [ov, ova, i_up, a_up] using hout), hstrs, (by simpa [ov, ova, i_up, a_up] using hmost), (by simpa [ov, ova, i_up, a_up] using hfire)⟩
theorem case10 {adS : Nat → Nat} {z L m n u v : Nat} {xs : Nat → Int32} {K : gK} {I : gI} {J : gJ} {X : gX} {A : gI} {B : gJ} {Q : gX} (hi : Inv adS z K I J X A B Q n) (ha : At L m) (hu : u ≤ 1200128 ∧ v ≤ 5501098) : Ok (w_law_j552 z (z + 126) (nI m) K I J X A B Q n u v) (GoesOn adS z m u v) := by
  obtain ⟨hfresh, hIS, hbegun, htold, htape, hfault, hrowby, hdone, hbest, hmore, hhooks, haims, hout, hstrs, hmost, hfire⟩ := hi
  have hS0 := hIS.1.1
  have hS11 := hIS.1.2.1
  have hKz := hS0.1
  have hI := hIS
  obtain ⟨-, ⟨hK7, hX9⟩, ⟨hS16, hX13⟩, ⟨hS60, hX15⟩, ⟨hS85, hX36⟩, ⟨⟨hS92, hS97, hS102, hS107⟩, hQ0, hQ1, hQ2, hQ3⟩, hG, -⟩ := hI
  have htd := htold.yard
  obtain ⟨S, hS, y, M, C, R, P, hy, hz, hsh, hm, hY⟩ := htd
  have hmen : ∀ (j m : Nat), (Q (y + 1)) j = some m → K m = some (.inl 12) := fun j m h => (hm j m h).1
  have htp := htape
  obtain ⟨n0, bb, hn740, el, el14, hTP⟩ := htp
  unfold w_law_j552
  repeat' (with_reducible first | refine ok_lt ?_ | refine ok_gdp hu ?_ | refine ok_gdp hS0 ?_ | refine ok_gdp hS11 ?_ | refine ok_gdp ha.r1 ?_ | refine ok_gdp ha.r2 ?_ | refine ok_gdp ha.r3 ?_ | refine ok_gdp ha.r4 ?_ | refine ok_gdp ha.r5 ?_ | fail)
  refine ok_e hy ?_
  repeat' (with_reducible first | refine ok_lt ?_ | refine ok_gdp hu ?_ | refine ok_gdp hS0 ?_ | refine ok_gdp hK7 ?_ | refine ok_gdp hS16 ?_ | refine ok_gdp hS60 ?_ | refine ok_gdp hS85 ?_ | refine ok_gdp hS92 ?_ | refine ok_gdp hS97 ?_ | refine ok_gdp hS102 ?_ | refine ok_gdp hS107 ?_ | refine ok_gdp hX9 ?_ | refine ok_gdp hX13 ?_ | refine ok_gdp hX15 ?_ | refine ok_gdp hX36 ?_ | refine ok_gdp hG ?_ | refine ok_gdp hsh ?_ | refine ok_gdp hmen ?_ | fail)
  obtain ⟨x, ex, q, eq, e1, ez, ⟨e2, etp, e3, e4⟩, ek⟩ := best_eq hTP hn740 hbegun hY y (I 2 z) (I 18 z) (I 26 z) (I 702 (z + 16)) (I 703 (z + 16)) (I 704 (z + 16)) (I 705 (z + 16)) (I 714 (z + 16)) (I 715 (z + 16)) (I 716 (z + 16)) (I 717 (z + 16)) (I 718 (z + 16)) (X 701 (z + 16)) (A (z + 17)) (A (z + 18)) (A (z + 19)) (A (z + 20)) (A (z + 21)) (A (z + 22)) (A (z + 23)) (A (z + 70)) (A (z + 73)) (I 1100 (z + 126)) (I 1133 (z + 126)) (I 1150 (z + 126)) (I 1152 (z + 126)) (A (z + 136)) (A (z + 147)) (A (z + 148)) (A (z + 149)) hbest
  refine ok_e (x := x) (by rw [el]; exact ex) ?_
  repeat' (with_reducible first | refine ok_lt ?_ | refine ok_gdp hu ?_ | refine ok_gdp hS0 ?_ | refine ok_gdp hS11 ?_ | refine ok_gdp ha.r1 ?_ | refine ok_gdp ha.r2 ?_ | refine ok_gdp ha.r3 ?_ | refine ok_gdp ha.r4 ?_ | refine ok_gdp ha.r5 ?_ | fail)
  refine ok_gdp (Sh.ov (by rfl) hS11) ?_
  refine ok_e (x := q) (by simpa [ov, i_up, ova, a_up, el14] using eq) ?_
  repeat' (with_reducible first | refine ok_lt ?_ | refine ok_gdp hu ?_ | refine ok_gdp hS0 ?_ | refine ok_gdp hS11 ?_ | refine ok_gdp ha.r1 ?_ | refine ok_gdp ha.r2 ?_ | refine ok_gdp ha.r3 ?_ | refine ok_gdp ha.r4 ?_ | refine ok_gdp ha.r5 ?_ | fail)
  refine ok_t e1 (goes0 ?_)
  exact ⟨hfresh, (IS_ov hIS _ (by rfl)), (Or.inr (by simpa [ov, i_up, ova, a_up] using e3)), ((((htold).put (by simp only [List.forall_mem_cons]; (repeat' apply And.intro); all_goals first | exact (by unfold Lo; omega) | exact fun _ h => absurd h (List.not_mem_nil)) (by simp only [List.forall_mem_cons]; (repeat' apply And.intro); all_goals first | exact (by unfold Lo; omega) | exact (by decide) | exact fun _ h => absurd h (List.not_mem_nil)) (by simp only [List.forall_mem_cons]; (repeat' apply And.intro); all_goals first | exact Or.inr rfl | exact Or.inl (by unfold Lo; omega) | exact fun _ h => absurd h (List.not_mem_nil))).putI (by simp only [List.forall_mem_cons]; (repeat' apply And.intro); all_goals first | exact (by unfold Lo; omega) | exact fun _ h => absurd h (List.not_mem_nil)) (by simp only [List.forall_mem_cons]; (repeat' apply And.intro); all_goals first | exact Or.inr rfl | exact Or.inl (by unfold Lo; omega) | exact fun _ h => absurd h (List.not_mem_nil))).w (by simp [ov, i_up, ova, a_up, e3, e4, layF_1])), (by simpa [ov, i_up, ova, a_up] using htape.zero ez etp), (by simpa [ov, ova, i_up, a_up] using hfault), (by simpa [ov, ova, i_up, a_up] using hrowby), (by simpa [ov, ova, i_up, a_up] using hdone), (by simpa [ov, i_up, ova, a_up] using ek), (by simpa [ov, ova, i_up, a_up] using hmore), (by simpa [ov, ova, i_up, a_up] using hhooks), (by simpa [ov, ova, i_up, a_up] using haims), (by simpa [ov, ova, i_up, a_up] using hout), hstrs, (by simpa [ov, ova, i_up, a_up] using hmost), (by simpa [ov, ova, i_up, a_up] using hfire)⟩
theorem ova_e21 {α : Type} {A : Nat → α} {a0 a1 a2 a3 a4 a5 a6 a7 a8 a9 a10 a11 a12 a13 a14 a15 a16 a17 a18 a19 a20 p q : Nat} {x0 x1 x2 x3 x4 x5 x6 x7 x8 x9 x10 x11 x12 x13 x14 x15 x16 x17 x18 x19 x20 : α} : ova A [(a0, x0), (a1, x1), (a2, x2), (a3, x3), (a4, x4), (a5, x5), (a6, x6), (a7, x7), (a8, x8), (a9, x9), (a10, x10), (a11, x11), (a12, x12), (a13, x13), (a14, x14), (a15, x15), (a16, x16), (a17, x17), (a18, x18), (a19, x19), (a20, x20), (p, A p), (q, A q)] = ova A [(a0, x0), (a1, x1), (a2, x2), (a3, x3), (a4, x4), (a5, x5), (a6, x6), (a7, x7), (a8, x8), (a9, x9), (a10, x10), (a11, x11), (a12, x12), (a13, x13), (a14, x14), (a15, x15), (a16, x16), (a17, x17), (a18, x18), (a19, x19), (a20, x20)] := by
  simp only [ova, a_up_id]
theorem case23 {adS : Nat → Nat} {z L m n u v : Nat} {xs : Nat → Int32} {K : gK} {I : gI} {J : gJ} {X : gX} {A : gI} {B : gJ} {Q : gX} (hi : Inv adS z K I J X A B Q n) (ha : At L m) (hu : u ≤ 1200128 ∧ v ≤ 5501098) : Ok (w_law_j944 z L xs (z + 126) (nI m) K I J X A B Q n u v) (GoesOn adS z m u v) := by
  obtain ⟨hfresh, hIS, hbegun, htold, htape, hfault, hrowby, hdone, hbest, hmore, hhooks, haims, hout, hstrs, hmost, hfire⟩ := hi
  have hS0 := hIS.1.1
  have hS11 := hIS.1.2.1
  have hKz := hS0.1
  have hI := hIS
  obtain ⟨-, ⟨hK7, hX9⟩, ⟨hS16, hX13⟩, ⟨hS60, hX15⟩, ⟨hS85, hX36⟩, ⟨⟨hS92, hS97, hS102, hS107⟩, hQ0, hQ1, hQ2, hQ3⟩, hG, -⟩ := hI
  have htd := htold.yard
  obtain ⟨S, hS, y, M, C, R, P, hy, hz, hsh, hm, hY⟩ := htd
  have hmen : ∀ (j m : Nat), (Q (y + 1)) j = some m → K m = some (.inl 12) := fun j m h => (hm j m h).1
  have hnda : nda [(z + 86), (z + 87), (z + 88), (z + 89), (z + 93), (z + 94), (z + 96), (z + 98), (z + 99), (z + 100), (z + 101), (z + 103), (z + 104), (z + 105), (z + 106), (z + 108), (z + 109), (z + 110), (z + 111), (z + 112), (z + 113), (y + 2), (y + 3)] := by
    have h2 := hz 2 (by decide)
    have h3 := hz 3 (by decide)
    unfold Fz at h2 h3
    simp [nda]
    omega
  unfold w_law_j944
  repeat' (with_reducible first | refine ok_lt ?_ | refine ok_gdp hu ?_ | refine ok_gdp hS0 ?_ | refine ok_gdp hS11 ?_ | refine ok_gdp ha.r1 ?_ | refine ok_gdp ha.r2 ?_ | refine ok_gdp ha.r3 ?_ | refine ok_gdp ha.r4 ?_ | refine ok_gdp ha.r5 ?_ | fail)
  refine ok_e hy ?_
  have hQ0' : Q (z + 91) ((0 : Int32).toNatClampNeg) = some (z + 92) := hQ0
  have hQ1' : Q (z + 91) ((1 : Int32).toNatClampNeg) = some (z + 97) := hQ1
  have hQ2' : Q (z + 91) ((2 : Int32).toNatClampNeg) = some (z + 102) := hQ2
  have hQ3' : Q (z + 91) ((3 : Int32).toNatClampNeg) = some (z + 107) := hQ3
  repeat' (with_reducible first | refine ok_lt ?_ | refine ok_gdp hu ?_ | refine ok_gdp hS0 ?_ | refine ok_gdp hK7 ?_ | refine ok_gdp hS16 ?_ | refine ok_gdp hS60 ?_ | refine ok_gdp hS85 ?_ | refine ok_gdp hS92 ?_ | refine ok_gdp hS97 ?_ | refine ok_gdp hS102 ?_ | refine ok_gdp hS107 ?_ | refine ok_gdp hX9 ?_ | refine ok_gdp hX13 ?_ | refine ok_gdp hX15 ?_ | refine ok_gdp hX36 ?_ | refine ok_gdp hG ?_ | refine ok_gdp hsh ?_ | refine ok_gdp hmen ?_ | refine ok_gdp hnda ?_ | refine ok_gdp hQ0' ?_ | refine ok_gdp hQ1' ?_ | refine ok_gdp hQ2' ?_ | refine ok_gdp hQ3' ?_ | fail)
  obtain ⟨x, ex, q, eq, e1, e2, e3, e4, ek⟩ := aims_eq hbegun hY (xs (nI m + (1 : Int32)).toNatClampNeg) (xs (nI m + (2 : Int32)).toNatClampNeg) y (I 44 z) (I 905 (z + 85)) (I 905 (z + 92)) (I 905 (z + 97)) (I 905 (z + 102)) (I 905 (z + 107)) (X 904 (z + 85)) (X 904 (z + 92)) (X 904 (z + 97)) (X 904 (z + 102)) (X 904 (z + 107)) (A (z + 86)) (A (z + 87)) (A (z + 88)) (A (z + 89)) (A (z + 93)) (A (z + 94)) (A (z + 96)) (A (z + 98)) (A (z + 99)) (A (z + 100)) (A (z + 101)) (A (z + 103)) (A (z + 104)) (A (z + 105)) (A (z + 106)) (A (z + 108)) (A (z + 109)) (A (z + 110)) (A (z + 111)) (A (z + 112)) (I 1100 (z + 126)) (I 1170 (z + 126)) (I 1181 (z + 126)) (I 1182 (z + 126)) (A (z + 158)) (A (z + 159)) (A (z + 160)) (A (z + 161)) (A (z + 165)) (A (z + 166)) (A (z + 167)) haims
  refine ok_e (x := x) (by exact ex) ?_
  repeat' (with_reducible first | refine ok_lt ?_ | refine ok_gdp hu ?_ | refine ok_gdp hS0 ?_ | refine ok_gdp hS11 ?_ | refine ok_gdp ha.r1 ?_ | refine ok_gdp ha.r2 ?_ | refine ok_gdp ha.r3 ?_ | refine ok_gdp ha.r4 ?_ | refine ok_gdp ha.r5 ?_ | fail)
  rw [ova_e21]
  refine ok_gdp (Sh.ov (by rfl) hS11) ?_
  refine ok_e (x := q) (by simpa [ov, i_up, ova, a_up] using eq) ?_
  repeat' (with_reducible first | refine ok_lt ?_ | refine ok_gdp hu ?_ | refine ok_gdp hS0 ?_ | refine ok_gdp hS11 ?_ | refine ok_gdp ha.r1 ?_ | refine ok_gdp ha.r2 ?_ | refine ok_gdp ha.r3 ?_ | refine ok_gdp ha.r4 ?_ | refine ok_gdp ha.r5 ?_ | fail)
  refine ok_t e1 (goes0 ?_)
  exact ⟨hfresh, (IS_ov hIS _ (by rfl)), (Or.inr (by simpa [ov, i_up, ova, a_up] using e3)), ((((htold).put (by simp only [List.forall_mem_cons]; (repeat' apply And.intro); all_goals first | exact (by unfold Lo; omega) | exact fun _ h => absurd h (List.not_mem_nil)) (by simp only [List.forall_mem_cons]; (repeat' apply And.intro); all_goals first | exact (by unfold Lo; omega) | exact (by decide) | exact fun _ h => absurd h (List.not_mem_nil)) (by simp only [List.forall_mem_cons]; (repeat' apply And.intro); all_goals first | exact Or.inr rfl | exact Or.inl (by unfold Lo; omega) | exact fun _ h => absurd h (List.not_mem_nil))).putI (by simp only [List.forall_mem_cons]; (repeat' apply And.intro); all_goals first | exact (by unfold Lo; omega) | exact fun _ h => absurd h (List.not_mem_nil)) (by simp only [List.forall_mem_cons]; (repeat' apply And.intro); all_goals first | exact Or.inr rfl | exact Or.inl (by unfold Lo; omega) | exact fun _ h => absurd h (List.not_mem_nil))).w (by simp [ov, i_up, ova, a_up, e3, e4, layF_1])), (by simpa [ov, ova, i_up, a_up] using htape), (by simpa [ov, ova, i_up, a_up] using hfault), (by simpa [ov, ova, i_up, a_up] using hrowby), (by simpa [ov, ova, i_up, a_up] using hdone), (by simpa [ov, ova, i_up, a_up] using hbest), (by simpa [ov, ova, i_up, a_up] using hmore), (by simpa [ov, ova, i_up, a_up] using hhooks), (by simpa [ov, i_up, ova, a_up] using ek), (by simpa [ov, ova, i_up, a_up] using hout), hstrs, (by simpa [ov, ova, i_up, a_up] using hmost), (by simpa [ov, ova, i_up, a_up] using hfire)⟩
theorem case6 {adS : Nat → Nat} {z L m n u v : Nat} {xs : Nat → Int32} {K : gK} {I : gI} {J : gJ} {X : gX} {A : gI} {B : gJ} {Q : gX} (hi : Inv adS z K I J X A B Q n) (ha : At L m) (hu : u ≤ 1200128 ∧ v ≤ 5501098) : Ok (w_law_j464 z L xs (z + 126) (nI m) K I J X A B Q n u v) (GoesOn adS z m u v) := by
  obtain ⟨hfresh, hIS, hbegun, htold, htape, hfault, hrowby, hdone, hbest, hmore, hhooks, haims, hout, hstrs, hmost, hfire⟩ := hi
  have hS0 := hIS.1.1
  have hS11 := hIS.1.2.1
  have hKz := hS0.1
  have hI := hIS
  obtain ⟨-, ⟨hK7, hX9⟩, ⟨hS16, hX13⟩, ⟨hS60, hX15⟩, ⟨hS85, hX36⟩, ⟨⟨hS92, hS97, hS102, hS107⟩, hQ0, hQ1, hQ2, hQ3⟩, hG, -⟩ := hI
  have htd := htold.yard
  obtain ⟨S, hS, y, M, C, R, P, hy, hz, hsh, hm, hY⟩ := htd
  have hmen : ∀ (j m : Nat), (Q (y + 1)) j = some m → K m = some (.inl 12) := fun j m h => (hm j m h).1
  have htp := htape
  obtain ⟨n0, bb, hn740, el, el14, hTP⟩ := htp
  unfold w_law_j464
  repeat' (with_reducible first | refine ok_lt ?_ | refine ok_gdp hu ?_ | refine ok_gdp hS0 ?_ | refine ok_gdp hS11 ?_ | refine ok_gdp ha.r1 ?_ | refine ok_gdp ha.r2 ?_ | refine ok_gdp ha.r3 ?_ | refine ok_gdp ha.r4 ?_ | refine ok_gdp ha.r5 ?_ | fail)
  refine ok_e hy ?_
  repeat' (with_reducible first | refine ok_lt ?_ | refine ok_gdp hu ?_ | refine ok_gdp hS0 ?_ | refine ok_gdp hK7 ?_ | refine ok_gdp hS16 ?_ | refine ok_gdp hS60 ?_ | refine ok_gdp hS85 ?_ | refine ok_gdp hS92 ?_ | refine ok_gdp hS97 ?_ | refine ok_gdp hS102 ?_ | refine ok_gdp hS107 ?_ | refine ok_gdp hX9 ?_ | refine ok_gdp hX13 ?_ | refine ok_gdp hX15 ?_ | refine ok_gdp hX36 ?_ | refine ok_gdp hG ?_ | refine ok_gdp hsh ?_ | refine ok_gdp hmen ?_ | fail)
  obtain ⟨x, ex, q, eq, e1, ez, ⟨e2, etp, e3, e4⟩, erb, ekd⟩ := row_eq hTP hn740 hbegun hY (xs (nI m + (1 : Int32)).toNatClampNeg) y (I 2 z) (I 18 z) (I 702 (z + 16)) (I 703 (z + 16)) (I 704 (z + 16)) (I 705 (z + 16)) (I 714 (z + 16)) (I 715 (z + 16)) (I 716 (z + 16)) (I 717 (z + 16)) (I 718 (z + 16)) (X 701 (z + 16)) (A (z + 17)) (A (z + 18)) (A (z + 19)) (A (z + 20)) (A (z + 21)) (A (z + 22)) (A (z + 23)) (A (z + 37)) (A (z + 70)) (fun j => A ((z + 25) + j)) (I 1100 (z + 126)) (I 1133 (z + 126)) (I 1134 (z + 126)) (I 1135 (z + 126)) (I 1136 (z + 126)) (I 1137 (z + 126)) (I 1138 (z + 126)) (I 1139 (z + 126)) (I 1140 (z + 126)) (I 1141 (z + 126)) (I 1142 (z + 126)) (A (z + 136)) (A (z + 137)) (A (z + 138)) (A (z + 139)) (A (z + 140)) (A (z + 141)) (A (z + 142)) (A (z + 143)) (A (z + 144)) hrowby hdone
  refine ok_e (x := x) (by rw [el]; exact ex) ?_
  repeat' (with_reducible first | refine ok_lt ?_ | refine ok_gdp hu ?_ | refine ok_gdp hS0 ?_ | refine ok_gdp hS11 ?_ | refine ok_gdp ha.r1 ?_ | refine ok_gdp ha.r2 ?_ | refine ok_gdp ha.r3 ?_ | refine ok_gdp ha.r4 ?_ | refine ok_gdp ha.r5 ?_ | fail)
  refine ok_gdp (Sh.ov (by rfl) hS11) ?_
  refine ok_e (x := q) (by simpa [ov, i_up, ova, a_up, ovg25, Nat.add_assoc, el14] using eq) ?_
  repeat' (with_reducible first | refine ok_lt ?_ | refine ok_gdp hu ?_ | refine ok_gdp hS0 ?_ | refine ok_gdp hS11 ?_ | refine ok_gdp ha.r1 ?_ | refine ok_gdp ha.r2 ?_ | refine ok_gdp ha.r3 ?_ | refine ok_gdp ha.r4 ?_ | refine ok_gdp ha.r5 ?_ | fail)
  refine ok_t e1 (goes0 ?_)
  exact ⟨hfresh, (IS_ov hIS _ (by rfl)), (Or.inr (by simpa [ov, i_up, ova, a_up, ovg25, Nat.add_assoc] using e3)), ((((htold.grid).put (by simp only [List.forall_mem_cons]; (repeat' apply And.intro); all_goals first | exact (by unfold Lo; omega) | exact fun _ h => absurd h (List.not_mem_nil)) (by simp only [List.forall_mem_cons]; (repeat' apply And.intro); all_goals first | exact (by unfold Lo; omega) | exact (by decide) | exact fun _ h => absurd h (List.not_mem_nil)) (by simp only [List.forall_mem_cons]; (repeat' apply And.intro); all_goals first | exact Or.inr rfl | exact Or.inl (by unfold Lo; omega) | exact fun _ h => absurd h (List.not_mem_nil))).putI (by simp only [List.forall_mem_cons]; (repeat' apply And.intro); all_goals first | exact (by unfold Lo; omega) | exact fun _ h => absurd h (List.not_mem_nil)) (by simp only [List.forall_mem_cons]; (repeat' apply And.intro); all_goals first | exact Or.inr rfl | exact Or.inl (by unfold Lo; omega) | exact fun _ h => absurd h (List.not_mem_nil))).w (by simp [ov, i_up, ova, a_up, ovg25, Nat.add_assoc, e3, e4, layF_1])), (by simpa [ov, i_up, ova, a_up, ovg25, Nat.add_assoc] using htape.zero ez etp), (by simpa [ov, i_up, ova, a_up, ovg25, Nat.add_assoc] using hfault), (by simpa [ov, i_up, ova, a_up, ovg25, Nat.add_assoc] using erb), (by simpa [ov, i_up, ova, a_up, ovg25, Nat.add_assoc] using ekd), (by simpa [ov, i_up, ova, a_up, ovg25, Nat.add_assoc] using hbest), (by simpa [ov, i_up, ova, a_up, ovg25, Nat.add_assoc] using hmore), (by simpa [ov, i_up, ova, a_up, ovg25, Nat.add_assoc] using hhooks), (by simpa [ov, i_up, ova, a_up, ovg25, Nat.add_assoc] using haims), (by simpa [ov, i_up, ova, a_up, ovg25, Nat.add_assoc] using hout), hstrs, (by simpa [ov, i_up, ova, a_up, ovg25, Nat.add_assoc] using hmost), (by simpa [ov, i_up, ova, a_up, ovg25, Nat.add_assoc] using hfire)⟩
theorem case13 {adS : Nat → Nat} {z L m n u v : Nat} {xs : Nat → Int32} {K : gK} {I : gI} {J : gJ} {X : gX} {A : gI} {B : gJ} {Q : gX} (hi : Inv adS z K I J X A B Q n) (ha : At L m) (hu : u ≤ 1200128 ∧ v ≤ 5501098) : Ok (w_law_j615 z L xs (z + 126) (nI m) K I J X A B Q n u v) (GoesOn adS z m u v) := by
  obtain ⟨hfresh, hIS, hbegun, htold, htape, hfault, hrowby, hdone, hbest, hmore, hhooks, haims, hout, hstrs, hmost, hfire⟩ := hi
  have hS0 := hIS.1.1
  have hS11 := hIS.1.2.1
  have hKz := hS0.1
  have hI := hIS
  obtain ⟨-, ⟨hK7, hX9⟩, ⟨hS16, hX13⟩, ⟨hS60, hX15⟩, ⟨hS85, hX36⟩, ⟨⟨hS92, hS97, hS102, hS107⟩, hQ0, hQ1, hQ2, hQ3⟩, hG, -⟩ := hI
  have htd := htold.yard
  obtain ⟨S, hS, y, M, C, R, P, hy, hz, hsh, hm, hY⟩ := htd
  have hmen : ∀ (j m : Nat), (Q (y + 1)) j = some m → K m = some (.inl 12) := fun j m h => (hm j m h).1
  unfold w_law_j615
  repeat' (with_reducible first | refine ok_lt ?_ | refine ok_gdp hu ?_ | refine ok_gdp hS0 ?_ | refine ok_gdp hS11 ?_ | refine ok_gdp ha.r1 ?_ | refine ok_gdp ha.r2 ?_ | refine ok_gdp ha.r3 ?_ | refine ok_gdp ha.r4 ?_ | refine ok_gdp ha.r5 ?_ | fail)
  refine ok_e hy ?_
  repeat' (with_reducible first | refine ok_lt ?_ | refine ok_gdp hu ?_ | refine ok_gdp hS0 ?_ | refine ok_gdp hK7 ?_ | refine ok_gdp hS16 ?_ | refine ok_gdp hS60 ?_ | refine ok_gdp hS85 ?_ | refine ok_gdp hS92 ?_ | refine ok_gdp hS97 ?_ | refine ok_gdp hS102 ?_ | refine ok_gdp hS107 ?_ | refine ok_gdp hX9 ?_ | refine ok_gdp hX13 ?_ | refine ok_gdp hX15 ?_ | refine ok_gdp hX36 ?_ | refine ok_gdp hG ?_ | refine ok_gdp hsh ?_ | refine ok_gdp hmen ?_ | fail)
  obtain ⟨x, ex, q, eq, e1, e2, e3, e4⟩ := line_eq hbegun hY (xs (nI m + (1 : Int32)).toNatClampNeg) y (I 702 (z + 16)) (I 703 (z + 16)) (I 704 (z + 16)) (I 705 (z + 16)) (I 714 (z + 16)) (I 715 (z + 16)) (I 716 (z + 16)) (I 717 (z + 16)) (I 718 (z + 16)) (I 802 (z + 60)) (I 803 (z + 60)) (I 804 (z + 60)) (I 805 (z + 60)) (I 809 (z + 60)) (X 701 (z + 16)) (X 801 (z + 60)) (A (z + 17)) (A (z + 18)) (A (z + 19)) (A (z + 20)) (A (z + 21)) (A (z + 22)) (A (z + 23)) (A (z + 37)) (A (z + 61)) (A (z + 62)) (A (z + 63)) (A (z + 64)) (A (z + 75)) (fun j => A ((z + 25) + j)) (I 1100 (z + 126)) (I 1133 (z + 126)) (I 1134 (z + 126)) (I 1135 (z + 126)) (I 1136 (z + 126)) (I 1137 (z + 126)) (I 1138 (z + 126)) (I 1139 (z + 126)) (I 1140 (z + 126)) (I 1141 (z + 126)) (I 1142 (z + 126)) (A (z + 136)) (A (z + 137)) (A (z + 138)) (A (z + 139)) (A (z + 140)) (A (z + 141)) (A (z + 142)) (A (z + 143)) (A (z + 144))
  refine ok_e (x := x) (by exact ex) ?_
  repeat' (with_reducible first | refine ok_lt ?_ | refine ok_gdp hu ?_ | refine ok_gdp hS0 ?_ | refine ok_gdp hS11 ?_ | refine ok_gdp ha.r1 ?_ | refine ok_gdp ha.r2 ?_ | refine ok_gdp ha.r3 ?_ | refine ok_gdp ha.r4 ?_ | refine ok_gdp ha.r5 ?_ | fail)
  refine ok_gdp (Sh.ov (by rfl) hS11) ?_
  refine ok_e (x := q) (by simpa [ov, i_up, ova, a_up, ovg25, Nat.add_assoc] using eq) ?_
  repeat' (with_reducible first | refine ok_lt ?_ | refine ok_gdp hu ?_ | refine ok_gdp hS0 ?_ | refine ok_gdp hS11 ?_ | refine ok_gdp ha.r1 ?_ | refine ok_gdp ha.r2 ?_ | refine ok_gdp ha.r3 ?_ | refine ok_gdp ha.r4 ?_ | refine ok_gdp ha.r5 ?_ | fail)
  refine ok_t e1 (goes0 ?_)
  exact ⟨hfresh, (IS_ov hIS _ (by rfl)), (Or.inr (by simpa [ov, i_up, ova, a_up, ovg25, Nat.add_assoc] using e3)), ((((htold.grid).put (by simp only [List.forall_mem_cons]; (repeat' apply And.intro); all_goals first | exact (by unfold Lo; omega) | exact fun _ h => absurd h (List.not_mem_nil)) (by simp only [List.forall_mem_cons]; (repeat' apply And.intro); all_goals first | exact (by unfold Lo; omega) | exact (by decide) | exact fun _ h => absurd h (List.not_mem_nil)) (by simp only [List.forall_mem_cons]; (repeat' apply And.intro); all_goals first | exact Or.inr rfl | exact Or.inl (by unfold Lo; omega) | exact fun _ h => absurd h (List.not_mem_nil))).putI (by simp only [List.forall_mem_cons]; (repeat' apply And.intro); all_goals first | exact (by unfold Lo; omega) | exact fun _ h => absurd h (List.not_mem_nil)) (by simp only [List.forall_mem_cons]; (repeat' apply And.intro); all_goals first | exact Or.inr rfl | exact Or.inl (by unfold Lo; omega) | exact fun _ h => absurd h (List.not_mem_nil))).w (by simp [ov, i_up, ova, a_up, ovg25, Nat.add_assoc, e3, e4, layF_1])), (by simpa [ov, i_up, ova, a_up, ovg25, Nat.add_assoc] using htape), (by simpa [ov, i_up, ova, a_up, ovg25, Nat.add_assoc] using hfault), (by simpa [ov, i_up, ova, a_up, ovg25, Nat.add_assoc] using hrowby), (by simpa [ov, i_up, ova, a_up, ovg25, Nat.add_assoc] using hdone), (by simpa [ov, i_up, ova, a_up, ovg25, Nat.add_assoc] using hbest), (by simpa [ov, i_up, ova, a_up, ovg25, Nat.add_assoc] using hmore), (by simpa [ov, i_up, ova, a_up, ovg25, Nat.add_assoc] using hhooks), (by simpa [ov, i_up, ova, a_up, ovg25, Nat.add_assoc] using haims), (by simpa [ov, i_up, ova, a_up, ovg25, Nat.add_assoc] using hout), hstrs, (by simpa [ov, i_up, ova, a_up, ovg25, Nat.add_assoc] using hmost), (by simpa [ov, i_up, ova, a_up, ovg25, Nat.add_assoc] using hfire)⟩
