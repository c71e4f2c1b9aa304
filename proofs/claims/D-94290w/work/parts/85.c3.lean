/-! the plain law: cases that may refuse -/
set_option maxRecDepth 100000
theorem updL_0 {f : Nat → Int64} {v : Int64} : vp_updL f (0 : Int32).toNatClampNeg v (0 : Int32).toNatClampNeg = v := by
  unfold vp_updL
  exact if_pos rfl
theorem cmp_self (v : Int64) : lg_cmp v v = 0 := by
  unfold lg_cmp
  rw [if_neg (Int64.lt_irrefl), if_pos rfl]
theorem case4 {adS : Nat → Nat} {z L m n u v : Nat} {xs : Nat → Int32} {K : gK} {I : gI} {J : gJ} {X : gX} {A : gI} {B : gJ} {Q : gX} (hi : Inv adS z K I J X A B Q n) (ha : At L m) (hb : u + 105 ≤ 1200128 ∧ v + 5502 ≤ 5501098) : Ok (w_law_j316 z adS z L xs (z + 126) (z + 171) (nI m) K I J X A B Q n u v) (GoesOn adS z m u v) := by
  obtain ⟨hfresh, hIS, hbegun, htold, htape, hfault, hrowby, hdone, hbest, hmore, hhooks, haims, hout, hstrs, hmost, hfire⟩ := hi
  have hS0 := hIS.1.1
  have hS11 := hIS.1.2.1
  have hKz := hS0.1
  have hu : u ≤ 1200128 ∧ v ≤ 5501098 := by omega
  have hu1 : u + 1 ≤ 1200128 ∧ v + 6 ≤ 5501098 := by omega
  have htd := htold.yard
  obtain ⟨S, hS, y, M, C, R, P, hy, hz, hsh, hm, hY⟩ := htd
  have hL : alen K (z + 171) 3 = some 1 := by
    unfold alen
    rw [hIS.1.2.2]
    exact if_pos rfl
  unfold w_law_j316
  repeat' (with_reducible first | refine ok_lt ?_ | refine ok_gdp hu ?_ | refine ok_gdp hS0 ?_ | refine ok_gdp hS11 ?_ | refine ok_gdp ha.r1 ?_ | refine ok_gdp ha.r2 ?_ | refine ok_gdp ha.r3 ?_ | refine ok_gdp ha.r4 ?_ | refine ok_gdp ha.r5 ?_ | fail)
  refine ok_gdp hu1 ?_
  obtain ⟨x, ex, q, eq, f1, f2, hA⟩ := man_eq (adS := adS) hfresh hIS hy hsh (fun j m h => (hm j m h).1) hbegun hY (xs (nI m + (1 : Int32)).toNatClampNeg) (xs (nI m + (2 : Int32)).toNatClampNeg) (I 1100 (z + 126))
  refine ok_e ex ?_
  repeat' (with_reducible first | refine ok_lt ?_ | refine ok_gdp hu ?_ | refine ok_gdp hS0 ?_ | refine ok_gdp hS11 ?_ | refine ok_gdp ha.r1 ?_ | refine ok_gdp ha.r2 ?_ | refine ok_gdp ha.r3 ?_ | refine ok_gdp ha.r4 ?_ | refine ok_gdp ha.r5 ?_ | fail)
  refine ok_gdp hu1 ?_
  have hE := ext_new (v := .inl 19) hfresh
  rcases hA with ⟨t1, rfl⟩ | ⟨t0, rfl⟩
  · refine ok_gdp (hS11.ext hE) (ok_e (x := q) eq (ok_lt (ok_lt ?_)))
    have e11 : f14_thrown (ov I [(1100, z + 126, q.2.1), (1122, z + 126, q.2.2.1)] 1100 (z + 126)) = some 1 := by
      simp [f14_thrown, ov, i_up, t1]
    refine ok_e e11 ?_
    rw [if_pos rfl, if_neg (show ¬ (1 : Int32) = 0 by decide)]
    unfold w_law_j381
    refine goes ?_ (by omega) (by omega)
    have hfr0 := hfresh
    have hfresh := hfresh.new (v := .inl 19)
    have htold := htold.ext hfr0 hIS hE
    have hIS := hIS.ext hE (ny_new (by decide))
    have hfire := hfire.ext hE
    dsimp only
    exact ⟨hfresh, hIS, (Or.inr (by simpa [ov, i_up] using f1)), (((htold.putI (by simp only [List.forall_mem_cons]; (repeat' apply And.intro); all_goals first | exact (by unfold Lo; omega) | exact fun _ h => absurd h (List.not_mem_nil)) (by simp only [List.forall_mem_cons]; (repeat' apply And.intro); all_goals first | exact Or.inl (by unfold Lo; omega) | exact fun _ h => absurd h (List.not_mem_nil)))).w (by simp [ov, i_up, ova, a_up, f1, f2, layF_1])), (by simpa [ov, ova, i_up, a_up] using htape), (by simpa [ov, ova, i_up, a_up] using hfault), (by simpa [ov, ova, i_up, a_up] using hrowby), (by simpa [ov, ova, i_up, a_up] using hdone), (by simpa [ov, ova, i_up, a_up] using hbest), (by simpa [ov, ova, i_up, a_up] using hmore), (by simpa [ov, ova, i_up, a_up] using hhooks), (by simpa [ov, ova, i_up, a_up] using haims), (by simpa [ov, ova, i_up, a_up] using hout), hstrs, (by simpa [ov, ova, i_up, a_up] using hmost), (by simpa [ov, ova, i_up, a_up] using hfire)⟩
  · refine ok_gdp hS11 (ok_e (x := q) eq (ok_lt (ok_lt ?_)))
    have e11 : f14_thrown (ov I [(1100, z + 126, q.2.1), (1122, z + 126, q.2.2.1)] 1100 (z + 126)) = some 0 := by
      simp [f14_thrown, ov, i_up, t0]
    refine ok_e e11 ?_
    rw [if_pos rfl, if_pos rfl]
    refine ok_e hL (ok_gdp (by decide) (ok_lt (ok_lt (ok_lt ?_))))
    have eB : lg_cmp (a_up B (z + 171) (vp_updL (B (z + 171)) (0 : Int32).toNatClampNeg q.1.toInt64) (z + 171) (0 : Int32).toNatClampNeg) q.1.toInt64 = 0 := by
      unfold a_up
      rw [if_pos rfl, updL_0]
      exact cmp_self _
    rw [if_pos eB]
    unfold w_law_j381
    refine goes ?_ (by omega) (by omega)
    dsimp only
    exact ⟨hfresh, hIS, (Or.inr (by simpa [ov, i_up] using f1)), ((((htold.B (B' := a_up B (z + 171) (vp_updL (B (z + 171)) (0 : Int32).toNatClampNeg q.1.toInt64)) (by unfold a_up; exact if_neg (by omega)) (by unfold a_up; exact if_neg (by omega))).putI (by simp only [List.forall_mem_cons]; (repeat' apply And.intro); all_goals first | exact (by unfold Lo; omega) | exact fun _ h => absurd h (List.not_mem_nil)) (by simp only [List.forall_mem_cons]; (repeat' apply And.intro); all_goals first | exact Or.inl (by unfold Lo; omega) | exact fun _ h => absurd h (List.not_mem_nil)))).w (by simp [ov, i_up, ova, a_up, f1, f2, layF_1])), (by simpa [ov, ova, i_up, a_up] using htape), (by simpa [ov, ova, i_up, a_up] using hfault), (by simpa [ov, ova, i_up, a_up] using hrowby), (by simpa [ov, ova, i_up, a_up] using hdone), (by simpa [ov, ova, i_up, a_up] using hbest), (by simpa [ov, ova, i_up, a_up] using hmore), (by simpa [ov, ova, i_up, a_up] using hhooks), (by simpa [ov, ova, i_up, a_up] using haims), (by simpa [ov, ova, i_up, a_up] using hout), hstrs, (by simpa [ov, ova, i_up, a_up] using hmost), (by simpa [ov, ova, i_up, a_up] using hfire)⟩
