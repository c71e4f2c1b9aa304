/-! the plain law: cases of the yard -/
set_option maxRecDepth 100000
theorem layF_1 {b : Int32} {w : Nat → Int32} : layF 1 (layF b w) = layF b w := if_neg (by decide)
theorem case26 {adS : Nat → Nat} {z L m n u v : Nat} {xs : Nat → Int32} {K : gK} {I : gI} {J : gJ} {X : gX} {A : gI} {B : gJ} {Q : gX} (hi : Inv adS z K I J X A B Q n) (ha : At L m) (hu : u ≤ 1200128 ∧ v ≤ 5501098) : Ok (w_law_j1031 z L xs (z + 126) (nI m) K I J X A B Q n u v) (GoesOn adS z m u v) := by
  obtain ⟨hfresh, hIS, hbegun, htold, htape, hfault, hrowby, hdone, hbest, hmore, hhooks, haims, hout, hstrs, hmost, hfire⟩ := hi
  have hS0 := hIS.1.1
  have hS11 := hIS.1.2.1
  have hKz := hS0.1
  have hI := hIS
  obtain ⟨-, ⟨hK7, hX9⟩, -, -, ⟨hS85, hX36⟩, -⟩ := hI
  have htd := htold.yard
  obtain ⟨S, hS, y, M, C, R, P, hy, hz, hsh, hm, hY⟩ := htd
  have hnda : nda [(z + 86), (z + 87), (z + 88), (z + 89), (y + 2), (y + 3)] := by
    have h2 := hz 2 (by decide)
    have h3 := hz 3 (by decide)
    unfold Fz at h2 h3
    simp [nda]
    omega
  unfold w_law_j1031
  repeat' (with_reducible first | refine ok_lt ?_ | refine ok_gdp hu ?_ | refine ok_gdp hS0 ?_ | refine ok_gdp hS11 ?_ | refine ok_gdp ha.r1 ?_ | refine ok_gdp ha.r2 ?_ | refine ok_gdp ha.r3 ?_ | refine ok_gdp ha.r4 ?_ | refine ok_gdp ha.r5 ?_ | fail)
  refine ok_e hy ?_
  repeat' (with_reducible first | refine ok_lt ?_ | refine ok_gdp hu ?_ | refine ok_gdp hS0 ?_ | refine ok_gdp hS11 ?_ | refine ok_gdp ha.r1 ?_ | refine ok_gdp ha.r2 ?_ | refine ok_gdp ha.r3 ?_ | refine ok_gdp ha.r4 ?_ | refine ok_gdp ha.r5 ?_ | fail)
  refine ok_gdp hsh (ok_gdp hK7 (ok_gdp hS85 (ok_gdp hX9 (ok_gdp hX36 (ok_gdp hnda ?_)))))
  obtain ⟨x, ex, q, eq, e1, e2, e3, e4⟩ := enough_eq hbegun hY (xs (nI m + (1 : Int32)).toNatClampNeg) (xs (nI m + (2 : Int32)).toNatClampNeg) y (I 905 (z + 85)) (I 1170 (z + 126)) (I 1171 (z + 126)) (I 1100 (z + 126)) (X 904 (z + 85)) (A (z + 86)) (A (z + 87)) (A (z + 88)) (A (z + 89)) (A (z + 158)) (A (z + 160)) (A (z + 159)) (A (z + 161)) (A (z + 162)) (A (z + 163))
  refine ok_e ex ?_
  repeat' (with_reducible first | refine ok_lt ?_ | refine ok_gdp hu ?_ | refine ok_gdp hS0 ?_ | refine ok_gdp hS11 ?_ | refine ok_gdp ha.r1 ?_ | refine ok_gdp ha.r2 ?_ | refine ok_gdp ha.r3 ?_ | refine ok_gdp ha.r4 ?_ | refine ok_gdp ha.r5 ?_ | fail)
  rw [ova_e4]
  have hS11' := Sh.ov (lx := [(904, z + 85, x.2.2.1)]) (by rfl) hS11
  refine ok_gdp hS11' ?_
  refine ok_e (x := q) (by simpa [ov, i_up, ova, a_up] using eq) ?_
  repeat' (with_reducible first | refine ok_lt ?_ | refine ok_gdp hu ?_ | refine ok_gdp hS0 ?_ | refine ok_gdp hS11 ?_ | refine ok_gdp ha.r1 ?_ | refine ok_gdp ha.r2 ?_ | refine ok_gdp ha.r3 ?_ | refine ok_gdp ha.r4 ?_ | refine ok_gdp ha.r5 ?_ | fail)
  refine ok_t e1 (goes0 ?_)
  have ht1 := htold.put (l := [(905, (z + 85), x.2.1)]) (l2 := [(904, (z + 85), x.2.2.1)]) (l3 := [((z + 86), x.2.2.2.1), ((z + 87), x.2.2.2.2.1), ((z + 88), x.2.2.2.2.2.1), ((z + 89), x.2.2.2.2.2.2)]) (by simp only [List.forall_mem_cons]; (repeat' apply And.intro); all_goals first | exact (by unfold Lo; omega) | exact fun _ h => absurd h (List.not_mem_nil)) (by simp only [List.forall_mem_cons]; (repeat' apply And.intro); all_goals first | exact (by unfold Lo; omega) | exact (by decide) | exact fun _ h => absurd h (List.not_mem_nil)) (by simp only [List.forall_mem_cons]; (repeat' apply And.intro); all_goals first | exact Or.inr rfl | exact Or.inl (by unfold Lo; omega) | exact fun _ h => absurd h (List.not_mem_nil))
  have ht2 := ht1.putI (l := [(1100, z + 126, q.2.1), (1122, z + 126, q.2.2.1), (1170, z + 126, q.2.2.2.1), (1171, z + 126, q.2.2.2.2.1)]) (l3 := [((z + 126 + 2), q.2.2.2.2.2.1), ((z + 126 + 32), q.2.2.2.2.2.2.1), ((z + 126 + 33), q.2.2.2.2.2.2.2.1), ((z + 126 + 34), q.2.2.2.2.2.2.2.2.1), ((z + 126 + 35), q.2.2.2.2.2.2.2.2.2.1), ((z + 126 + 36), q.2.2.2.2.2.2.2.2.2.2.1), ((z + 126 + 37), q.2.2.2.2.2.2.2.2.2.2.2)]) (by simp only [List.forall_mem_cons]; (repeat' apply And.intro); all_goals first | exact (by unfold Lo; omega) | exact fun _ h => absurd h (List.not_mem_nil)) (by simp only [List.forall_mem_cons]; (repeat' apply And.intro); all_goals first | exact Or.inr rfl | exact Or.inl (by unfold Lo; omega) | exact fun _ h => absurd h (List.not_mem_nil))
  have ew : layF (ov (ov I [(905, (z + 85), x.2.1)]) [(1100, z + 126, q.2.1), (1122, z + 126, q.2.2.1), (1170, z + 126, q.2.2.2.1), (1171, z + 126, q.2.2.2.2.1)] 1122 (z + 126)) (ova (ova A [((z + 86), x.2.2.2.1), ((z + 87), x.2.2.2.2.1), ((z + 88), x.2.2.2.2.2.1), ((z + 89), x.2.2.2.2.2.2)]) [((z + 126 + 2), q.2.2.2.2.2.1), ((z + 126 + 32), q.2.2.2.2.2.2.1), ((z + 126 + 33), q.2.2.2.2.2.2.2.1), ((z + 126 + 34), q.2.2.2.2.2.2.2.2.1), ((z + 126 + 35), q.2.2.2.2.2.2.2.2.2.1), ((z + 126 + 36), q.2.2.2.2.2.2.2.2.2.2.1), ((z + 126 + 37), q.2.2.2.2.2.2.2.2.2.2.2)] (z + 128)) = layF (I 1122 (z + 126)) (A (z + 128)) := by
    simp [ov, i_up, ova, a_up, e3, e4, layF_1]
  exact ⟨hfresh, (IS_ov hIS _ (by rfl)), (Or.inr (by simpa [ov, i_up] using e3)), (by rw [ew]; exact ht2), (by simpa [ov, ova, i_up, a_up] using htape), (by simpa [ov, ova, i_up, a_up] using hfault), (by simpa [ov, ova, i_up, a_up] using hrowby), (by simpa [ov, ova, i_up, a_up] using hdone), (by simpa [ov, ova, i_up, a_up] using hbest), (by simpa [ov, ova, i_up, a_up] using hmore), (by simpa [ov, ova, i_up, a_up] using hhooks), (by simpa [ov, ova, i_up, a_up] using haims), (by simpa [ov, ova, i_up, a_up] using hout), hstrs, (by simpa [ov, ova, i_up, a_up] using hmost), (by simpa [ov, ova, i_up, a_up] using hfire)⟩
