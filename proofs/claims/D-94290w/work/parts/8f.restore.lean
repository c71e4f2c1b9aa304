/-! the plain law: the case restore -/
set_option maxRecDepth 100000
theorem ToldS.restore {z s : Nat} {S : Nat → Prop} {K : gK} {I I' : gI} {J : gJ} {X : gX} {A A' : gI} {B B' : gJ} {Q : gX} {w w' : Nat → Int32} {wk : Nat → Int32} {nk : Nat → Int64} (h : ToldS z S K I J X A B Q w) (hst : StateAt z S K I J X A Q s wk nk) (hs : z + 172 ≤ s)
    (hI : ∀ f a, ¬ Lo z a → I' f a = I f a) (hA : ∀ a, ¬ Lo z a → A' a = A a) (hb : B' (z + 134) = B (z + 134)) (hw : ∀ i, i < 800 → w' i = wk i) (hn : ∀ i, i < 12 → B' (z + 132) i = nk i) :
    ToldS z S K I' J (i_up (i_up (i_up X 200 (z + 7) (X 200 s)) 201 (z + 7) (X 201 s)) 202 (z + 7) (X 202 s)) A' B' Q w' := by
  obtain ⟨hS, hsn, -, hi1, hi2⟩ := h
  have hX : ∀ f a, a ≠ z + 7 → i_up (i_up (i_up X 200 (z + 7) (X 200 s)) 201 (z + 7) (X 201 s)) 202 (z + 7) (X 202 s) f a = X f a := fun f a ha => by
    unfold i_up
    by_cases q1 : f = 202 <;> by_cases q2 : f = 201 <;> by_cases q3 : f = 200 <;> simp [q1, q2, q3, ha]
  have hXs : ∀ f, f = 200 ∨ f = 201 ∨ f = 202 → i_up (i_up (i_up X 200 (z + 7) (X 200 s)) 201 (z + 7) (X 201 s)) 202 (z + 7) (X 202 s) f (z + 7) = X f s := fun f hf => by
    rcases hf with rfl | rfl | rfl <;> simp [i_up]
  have hfr : Fro z S K I J X A Q K I' J (i_up (i_up (i_up X 200 (z + 7) (X 200 s)) 201 (z + 7) (X 201 s)) 202 (z + 7) (X 202 s)) A' Q := fun a q => by
    have q7 : a ≠ z + 7 := by
      unfold Fz at q
      omega
    exact ⟨rfl, fun f => hI f a fun r => r.nz q, fun f => rfl, fun f => hX f a q7, hA a (fun r => r.nz q), rfl⟩
  refine ⟨hS, hsn, (hst.fr hfr (hXs _ (Or.inl rfl)) (hXs _ (Or.inr (Or.inl rfl))) (hXs _ (Or.inr (Or.inr rfl)))).congr hw hn, hi1, fun j hj => ?_⟩
  rw [hA (z + 131) (by unfold Lo; omega), hA (z + 135) (by unfold Lo; omega), hb]
  rcases hi2 j hj with r | ⟨t, r1, r2, r3, r4, r5⟩
  · exact Or.inl r
  · have h7 : t ≠ z + 7 := by omega
    exact Or.inr ⟨t, r1, r2, r3, r4, r5.fr hfr (hX _ _ h7) (hX _ _ h7) (hX _ _ h7)⟩
theorem case32 {adS : Nat → Nat} {z L m n u v : Nat} {xs : Nat → Int32} {K : gK} {I : gI} {J : gJ} {X : gX} {A : gI} {B : gJ} {Q : gX} (hi : Inv adS z K I J X A B Q n) (ha : At L m) (hu : u ≤ 1200128 ∧ v ≤ 5501098) : Ok (w_law_j1181 z adS z L xs (z + 126) (nI m) K I J X A B Q n u v) (GoesOn adS z m u v) := by
  obtain ⟨p, hp⟩ : ∃ p, p = xs (nI m + (1 : Int32)).toNatClampNeg := ⟨_, rfl⟩
  obtain ⟨hfresh, hIS, hbegun, htold, htape, hfault, hrowby, hdone, hbest, hmore, hhooks, haims, hout, hstrs, hmost, hfire⟩ := hi
  have hS0 := hIS.1.1
  have hS11 := hIS.1.2.1
  have hKz := hS0.1
  unfold w_law_j1181
  repeat' (with_reducible first | refine ok_lt ?_ | (refine ok_gdp ?_ ?_; first | exact hu | exact hS0 | exact hS11 | exact ha.r1 | exact ha.r2 | exact ha.r3 | exact ha.r4 | exact ha.r5 | assumption) | fail)
  rw [← hp]
  have eB : ∀ x y : Nat → Int64, x = B (z + 126 + 6) → y = B (z + 126 + 8) → ova B [(z + 126 + 6, x), (z + 126 + 8, y)] = B := by
    rintro x y rfl rfl
    simp only [ova]
    rw [a_up_same (a := z + 126 + 8) rfl, a_up_same (a := z + 126 + 6) rfl]
  have eA : ∀ y : Nat → Int32, ova A [(z + 126 + 2, y), (z + 126 + 5, A (z + 126 + 5)), (z + 126 + 9, A (z + 126 + 9))] = ova A [(z + 126 + 2, y)] := by
    intro y
    simp only [ova]
    rw [a_up_same (a := z + 126 + 9) rfl, a_up_same (a := z + 126 + 5) rfl]
  obtain ⟨x51, l51⟩ := hS0.len 23 rfl
  have hK7 := hIS.2.1.1
  have hX9 := hIS.2.1.2
  have htd := htold
  obtain ⟨S, htS⟩ := htd.ex
  have him := htS.2.2.2.2
  have hcase : (w1_restore z adS z p K I J X A B Q n = some (0, K, I, J, X, A, B, Q, n) ∧ f14_restore p (I 1100 (z + 126)) (I 1122 (z + 126)) (A (z + 128)) (A (z + 131)) (A (z + 135)) (B (z + 132)) (B (z + 134)) = some (0, 0, 1, layF (I 1122 (z + 126)) (A (z + 128)), B (z + 132))) ∨
      ∃ (k s : Nat) (w' : Nat → Int32) (nm' : Nat → Int64), z + 172 ≤ s ∧ w1_restore z adS z p K I J X A B Q n = some (1, K, I, J, i_up (i_up (i_up X 200 (z + 7) (X 200 s)) 201 (z + 7) (X 201 s)) 202 (z + 7) (X 202 s), A, B, Q, n) ∧ f14_restore p (I 1100 (z + 126)) (I 1122 (z + 126)) (A (z + 128)) (A (z + 131)) (A (z + 135)) (B (z + 132)) (B (z + 134)) = some (1, 0, 1, w', nm') ∧ StateAt z S K I J X A Q s (fun i => A (z + 131) (800 * k + i)) (fun i => B (z + 134) (12 * k + i)) ∧ (∀ i, i < 800 → w' i = A (z + 131) (800 * k + i)) ∧ ∀ i, i < 12 → nm' i = B (z + 134) (12 * k + i) := by
    rcases isIn_cc p (a := 0) (b := 1) (A := 0) (B := 1) rfl rfl (by decide) (by decide) with ⟨e, e', -⟩ | ⟨e, e', k, -, hk, rfl⟩
    · refine Or.inl ⟨?_, ?_⟩
      · unfold w1_restore
        rw [e, bind_is, if_pos rfl]
      · unfold f14_restore
        rw [lay_ok hbegun, bind_is, e', bind_is, if_pos rfl]
    · have hc : (nI k).toNatClampNeg = k := nI_clamp (by omega)
      have hin : inb (nI k) 2 := inb_nI (by omega) (by decide)
      rcases him k (by omega) with ⟨hq, hik⟩ | ⟨s, hq, hs, hks, hik, hst⟩
      · refine Or.inl ⟨?_, ?_⟩
        · unfold w1_restore
          rw [e, bind_is, if_neg (show ¬ (1 : Int32) = 0 by decide), gdp_t hKz]
          simp only [lt_is, x51, bind_is, l51, gdp_t hin, hc, hq, if_true]
        · unfold f14_restore
          rw [lay_ok hbegun, bind_is, e', bind_is, if_neg (show ¬ (1 : Int32) = 0 by decide), gd_t hin, lt_is, hc, if_pos hik]
      · obtain ⟨w', nm', e14, h1, h2⟩ := restore14 (show k < 2 by omega) hbegun (I 1100 (z + 126)) (A (z + 128)) (A (z + 131)) (A (z + 135)) (B (z + 132)) (B (z + 134)) hik
        refine Or.inr ⟨k, s, w', nm', hs, ?_, e14, hst, h1, h2⟩
        have hne : ¬ s = z + 7 := by omega
        have hns : ¬ (some s : Option Nat) = none := fun h => nomatch h
        unfold w1_restore w3_be
        rw [e, bind_is, if_neg (show ¬ (1 : Int32) = 0 by decide), gdp_t hKz]
        simp only [lt_is, x51, bind_is, l51, gdp_t hin, hc, hq, hns, if_false, hX9, gdp_t hK7, gdp_t hks]
        simp only [i_up, hne, if_false, if_true, show ¬ (201 = 200) by decide, show ¬ (202 = 200) by decide, show ¬ (202 = 201) by decide]
  rcases hcase with ⟨e1, e14⟩ | ⟨k, s, w', nm', hs, e1, e14, hst, hw, hn⟩
  · refine ok_e e1 ?_
    repeat' (with_reducible first | refine ok_lt ?_ | (refine ok_gdp ?_ ?_; first | exact hu | exact hS0 | exact hS11 | exact ha.r1 | exact ha.r2 | exact ha.r3 | exact ha.r4 | exact ha.r5 | assumption) | fail)
    rw [← hp]
    refine ok_e e14 ?_
    repeat' (with_reducible first | refine ok_lt ?_ | (refine ok_gdp ?_ ?_; first | exact hu | exact hS0 | exact hS11 | exact ha.r1 | exact ha.r2 | exact ha.r3 | exact ha.r4 | exact ha.r5 | assumption) | fail)
    refine ok_t rfl (goes0 ?_)
    dsimp only
    rw [eA, eB _ _ rfl rfl]
    exact ⟨hfresh, hIS, (Or.inr (by simp [ov, i_up, ova, a_up])), (((htold).putI (by simp only [List.forall_mem_cons]; (repeat' apply And.intro); all_goals first | exact (by unfold Lo; omega) | exact Or.inr rfl | exact Or.inl (by unfold Lo; omega) | exact (by decide) | exact fun _ h => absurd h (List.not_mem_nil)) (by simp only [List.forall_mem_cons]; (repeat' apply And.intro); all_goals first | exact (by unfold Lo; omega) | exact Or.inr rfl | exact Or.inl (by unfold Lo; omega) | exact (by decide) | exact fun _ h => absurd h (List.not_mem_nil))).w (by simp [ov, i_up, ova, a_up, layF_1])), (by simpa [ov, ova, i_up, a_up] using htape), (by simpa [ov, ova, i_up, a_up] using hfault), (by simpa [ov, ova, i_up, a_up] using hrowby), (by simpa [ov, ova, i_up, a_up] using hdone), (by simpa [ov, ova, i_up, a_up] using hbest), (by simpa [ov, ova, i_up, a_up] using hmore), (by simpa [ov, ova, i_up, a_up] using hhooks), (by simpa [ov, ova, i_up, a_up] using haims), (by simpa [ov, ova, i_up, a_up] using hout), hstrs, (by simpa [ov, ova, i_up, a_up] using hmost), (by simpa [ov, ova, i_up, a_up] using hfire)⟩
  · refine ok_e e1 ?_
    have hX : ∀ f a, ¬ (f = 200 ∨ f = 201 ∨ f = 202) → i_up (i_up (i_up X 200 (z + 7) (X 200 s)) 201 (z + 7) (X 201 s)) 202 (z + 7) (X 202 s) f a = X f a := fun f a ha => by
      simp [i_up, show ¬ f = 200 by omega, show ¬ f = 201 by omega, show ¬ f = 202 by omega]
    have hIS2 : IS z K (i_up (i_up (i_up X 200 (z + 7) (X 200 s)) 201 (z + 7) (X 201 s)) 202 (z + 7) (X 202 s)) Q := IS_same hIS fun f hf a _ => hX f a fun q => by
      rcases q with rfl | rfl | rfl <;> revert hf <;> decide
    have hS11' := hIS2.1.2.1
    repeat' (with_reducible first | refine ok_lt ?_ | (refine ok_gdp ?_ ?_; first | exact hu | exact hS0 | exact hS11 | exact ha.r1 | exact ha.r2 | exact ha.r3 | exact ha.r4 | exact ha.r5 | assumption) | fail)
    rw [← hp]
    refine ok_e e14 ?_
    repeat' (with_reducible first | refine ok_lt ?_ | (refine ok_gdp ?_ ?_; first | exact hu | exact hS0 | exact hS11 | exact ha.r1 | exact ha.r2 | exact ha.r3 | exact ha.r4 | exact ha.r5 | assumption) | fail)
    refine ok_t rfl (goes0 ?_)
    dsimp only
    rw [eA]
    have eb2 : ova B [(z + 126 + 6, nm'), (z + 126 + 8, B (z + 126 + 8))] = a_up B (z + 132) nm' := by
      simp only [ova]
      rw [a_up_same (a := z + 126 + 8) rfl]
    have ht2 : ToldS z S K (ov I [(1100, z + 126, 0), (1122, z + 126, 1)]) J (i_up (i_up (i_up X 200 (z + 7) (X 200 s)) 201 (z + 7) (X 201 s)) 202 (z + 7) (X 202 s)) (ova A [(z + 126 + 2, w')]) (a_up B (z + 132) nm') Q (layF (ov I [(1100, z + 126, 0), (1122, z + 126, 1)] 1122 (z + 126)) (ova A [(z + 126 + 2, w')] (z + 128))) := by
      refine htS.restore hst hs (fun f a ha => ?_) (fun a ha => ?_) (by simp [a_up]) (fun i hi => ?_) (fun i hi => ?_)
      · exact ov_fr (fun p hp e => absurd (show Lo z a by
          simp only [List.mem_cons, List.not_mem_nil, or_false] at hp
          rcases hp with rfl | rfl <;> · dsimp only at e; unfold Lo; omega) ha)
      · have q1 : ¬ a = z + 126 + 2 := fun e => ha (by unfold Lo; omega)
        simp [ova, a_up, q1]
      · have e : layF (ov I [(1100, z + 126, 0), (1122, z + 126, 1)] 1122 (z + 126)) (ova A [(z + 126 + 2, w')] (z + 128)) = w' := by
          simp [ov, i_up, ova, a_up, layF]
        rw [e]
        exact hw i hi
      · have e : a_up B (z + 132) nm' (z + 132) = nm' := by simp [a_up]
        rw [e]
        exact hn i hi
    rw [eb2]
    exact ⟨hfresh, hIS2, (Or.inr (by simp [ov, i_up, ova, a_up])), ht2.t, (by simpa [ov, ova, i_up, a_up] using htape), (by simpa [ov, ova, i_up, a_up] using hfault), (by simpa [ov, ova, i_up, a_up] using hrowby), (by simpa [ov, ova, i_up, a_up] using hdone), (by simpa [ov, ova, i_up, a_up] using hbest), (by simpa [ov, ova, i_up, a_up] using hmore), (by simpa [ov, ova, i_up, a_up] using hhooks), (by simpa [ov, ova, i_up, a_up] using haims), (by simpa [ov, ova, i_up, a_up] using hout), hstrs, (by simpa [ov, ova, i_up, a_up] using hmost), (by rw [hX 904 _ (by decide)]; simpa [ov, ova, i_up, a_up] using hfire)⟩
