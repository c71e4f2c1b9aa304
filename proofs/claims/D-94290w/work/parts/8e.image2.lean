/-! the plain law: the cases image and restore -/
set_option maxRecDepth 100000
theorem ToldS.image {z s k : Nat} {S : Nat → Prop} {K : gK} {I I' : gI} {J : gJ} {X : gX} {A A' : gI} {B B' : gJ} {Q : gX} {w w' : Nat → Int32} (h : ToldS z S K I J X A B Q w) (hk : k < 2) (hs : z + 172 ≤ s) (hks : K s = some (.inl 2)) (ho : ∀ j, j < 2 → j ≠ k → ¬ Q (z + 125) j = some s)
    (hI : ∀ f a, ¬ Lo z a → I' f a = I f a) (hA : ∀ a, ¬ Lo z a → a ≠ z + 131 → a ≠ z + 135 → A' a = A a) (hw : w' = w) (hb : B' (z + 132) = B (z + 132))
    (hkp : (∀ i, i < 800 → A' (z + 131) (800 * k + i) = w i) ∧ ∀ j, (j < 800 * k ∨ 800 * k + 800 ≤ j) → A' (z + 131) j = A (z + 131) j) (hik : A' (z + 135) = upd (A (z + 135)) k 1)
    (hkn : (∀ i, i < 12 → B' (z + 134) (12 * k + i) = B (z + 132) i) ∧ ∀ j, (j < 12 * k ∨ 12 * k + 12 ≤ j) → B' (z + 134) j = B (z + 134) j) :
    ToldS z S K I' J (i_up (i_up (i_up X 200 s (X 200 (z + 7))) 201 s (X 201 (z + 7))) 202 s (X 202 (z + 7))) A' B' (a_up Q (z + 125) (va_up (Q (z + 125)) k (some s))) w' := by
  subst hw
  obtain ⟨hS, hsn, hst, hi1, hi2⟩ := h
  have hsF : ¬ Fz z S s := fun q => by
    rcases q with q | q
    · omega
    · exact (hS s q.2).2 hks
  have hX : ∀ f a, a ≠ s → i_up (i_up (i_up X 200 s (X 200 (z + 7))) 201 s (X 201 (z + 7))) 202 s (X 202 (z + 7)) f a = X f a := fun f a ha => by
    unfold i_up
    by_cases q1 : f = 202 <;> by_cases q2 : f = 201 <;> by_cases q3 : f = 200 <;> simp [q1, q2, q3, ha]
  have hXs : ∀ f, f = 200 ∨ f = 201 ∨ f = 202 → i_up (i_up (i_up X 200 s (X 200 (z + 7))) 201 s (X 201 (z + 7))) 202 s (X 202 (z + 7)) f s = X f (z + 7) := fun f hf => by
    rcases hf with rfl | rfl | rfl <;> simp [i_up]
  have hF : ∀ a, Fz z S a → a ≠ z + 125 ∧ a ≠ z + 131 ∧ a ≠ z + 135 := fun a q => by
    unfold Fz at q
    omega
  have hfr : Fro z S K I J X A Q K I' J (i_up (i_up (i_up X 200 s (X 200 (z + 7))) 201 s (X 201 (z + 7))) 202 s (X 202 (z + 7))) A' (a_up Q (z + 125) (va_up (Q (z + 125)) k (some s))) := fun a q => by
    obtain ⟨n1, n2, n3⟩ := hF a q
    refine ⟨rfl, fun f => hI f a fun r => r.nz q, fun f => rfl, fun f => hX f a fun e => hsF (e ▸ q), hA a (fun r => r.nz q) n2 n3, ?_⟩
    unfold a_up
    exact if_neg n1
  have hq : ∀ j, a_up Q (z + 125) (va_up (Q (z + 125)) k (some s)) (z + 125) j = if j = k then some s else Q (z + 125) j := fun j => by
    unfold a_up va_up
    rw [if_pos rfl]
  have h7 : z + 7 ≠ s := by omega
  refine ⟨hS, fun j t hj ht => hsn j t hj ?_, ?_, ?_, fun j hj => ?_⟩
  · unfold a_up at ht
    rwa [if_neg (by omega)] at ht
  · rw [hb]
    exact hst.fr hfr (hX _ _ h7) (hX _ _ h7) (hX _ _ h7)
  · intro t ht
    rw [hq] at ht ⊢
    rcases (show k = 0 ∨ k = 1 by omega) with rfl | rfl
    · rw [if_pos rfl] at ht
      rw [if_neg (by decide)]
      cases ht
      exact ho 1 (by decide) (by decide)
    · rw [if_neg (by decide)] at ht
      rw [if_pos rfl]
      intro e
      cases e
      exact ho 0 (by decide) (by decide) ht
  · rw [hq, hik]
    by_cases q : j = k
    · subst q
      rw [if_pos rfl, pk_us]
      exact Or.inr ⟨s, rfl, hs, hks, by decide, (hst.fr hfr (hXs _ (Or.inl rfl)) (hXs _ (Or.inr (Or.inl rfl))) (hXs _ (Or.inr (Or.inr rfl)))).congr (fun i hi => hkp.1 i hi) (fun i hi => hkn.1 i hi)⟩
    · rw [if_neg q, pk_un q]
      rcases hi2 j hj with r | ⟨t, r1, r2, r3, r4, r5⟩
      · exact Or.inl r
      · have hts : t ≠ s := fun e => ho j hj q (e ▸ r1)
        have h8 : 800 * j + 800 ≤ 800 * k ∨ 800 * k + 800 ≤ 800 * j := by omega
        have h9 : 12 * j + 12 ≤ 12 * k ∨ 12 * k + 12 ≤ 12 * j := by omega
        exact Or.inr ⟨t, r1, r2, r3, r4, (r5.fr hfr (hX _ _ hts) (hX _ _ hts) (hX _ _ hts)).congr (fun i hi => hkp.2 _ (by omega)) (fun i hi => hkn.2 _ (by omega))⟩
theorem case31 {adS : Nat → Nat} {z L m n u v : Nat} {xs : Nat → Int32} {K : gK} {I : gI} {J : gJ} {X : gX} {A : gI} {B : gJ} {Q : gX} (hi : Inv adS z K I J X A B Q n) (ha : At L m) (hb : u + 105 ≤ 1200128 ∧ v + 5502 ≤ 5501098) : Ok (w_law_j1156 z adS z L xs (z + 126) (nI m) K I J X A B Q n u v) (GoesOn adS z m u v) := by
  have hi0 := hi
  have hu7 : u + 7 ≤ 1200128 ∧ v + 180 ≤ 5501098 := by omega
  obtain ⟨p, hp⟩ : ∃ p, p = xs (nI m + (1 : Int32)).toNatClampNeg := ⟨_, rfl⟩
  obtain ⟨hfresh, hIS, hbegun, htold, htape, hfault, hrowby, hdone, hbest, hmore, hhooks, haims, hout, hstrs, hmost, hfire⟩ := hi
  have hS0 := hIS.1.1
  have hS11 := hIS.1.2.1
  have hKz := hS0.1
  unfold w_law_j1156
  repeat' (with_reducible first | refine ok_lt ?_ | (refine ok_gdp ?_ ?_; first | exact hu | exact hS0 | exact hS11 | exact ha.r1 | exact ha.r2 | exact ha.r3 | exact ha.r4 | exact ha.r5 | assumption) | fail)
  rw [← hp]
  have hex : ∃ a, K a ≠ none := ⟨z, by rw [hKz]; exact fun h => nomatch h⟩
  rcases isIn_cc p (a := 0) (b := 1) (A := 0) (B := 1) rfl rfl (by decide) (by decide) with ⟨e, e', -⟩ | ⟨-, -, k, -, hk, rfl⟩
  · refine ok_e (x := (0, K, I, J, X, A, B, Q, n)) (by unfold w1_image; rw [gdp_t hex, e, bind_is, if_pos rfl, gdp_t (by decide)]) ?_
    repeat' (with_reducible first | refine ok_lt ?_ | (refine ok_gdp ?_ ?_; first | exact hu | exact hS0 | exact hS11 | exact ha.r1 | exact ha.r2 | exact ha.r3 | exact ha.r4 | exact ha.r5 | assumption) | fail)
    rw [← hp]
    refine ok_e (x := (0, 0, 1, layF (I 1122 (z + 126)) (A (z + 128)), A (z + 131), A (z + 135), B (z + 134))) (by unfold f14_image; rw [lay_ok hbegun, bind_is, e', bind_is, if_pos rfl]) ?_
    repeat' (with_reducible first | refine ok_lt ?_ | (refine ok_gdp ?_ ?_; first | exact hu | exact hS0 | exact hS11 | exact ha.r1 | exact ha.r2 | exact ha.r3 | exact ha.r4 | exact ha.r5 | assumption) | fail)
    refine ok_t rfl (goes ?_ (by omega) (by omega))
    have eB : ova B [(z + 126 + 6, B (z + 126 + 6)), (z + 126 + 8, B (z + 134))] = B := by
      simp only [ova]
      rw [a_up_same (a := z + 126 + 8) (v := B (z + 134)) rfl, a_up_same (a := z + 126 + 6) rfl]
    have eA : ova A [(z + 126 + 2, layF (I 1122 (z + 126)) (A (z + 128))), (z + 126 + 5, A (z + 131)), (z + 126 + 9, A (z + 135))] = ova A [(z + 126 + 2, layF (I 1122 (z + 126)) (A (z + 128)))] := by
      simp only [ova]
      rw [a_up_same (a := z + 126 + 9) (v := A (z + 135)) rfl, a_up_same (a := z + 126 + 5) (v := A (z + 131)) rfl]
    dsimp only
    rw [eA, eB]
    exact ⟨hfresh, hIS, (Or.inr (by simp [ov, i_up, ova, a_up])), (((htold).putI (by simp only [List.forall_mem_cons]; (repeat' apply And.intro); all_goals first | exact (by unfold Lo; omega) | exact Or.inr rfl | exact Or.inl (by unfold Lo; omega) | exact (by decide) | exact fun _ h => absurd h (List.not_mem_nil)) (by simp only [List.forall_mem_cons]; (repeat' apply And.intro); all_goals first | exact (by unfold Lo; omega) | exact Or.inr rfl | exact Or.inl (by unfold Lo; omega) | exact (by decide) | exact fun _ h => absurd h (List.not_mem_nil))).w (by simp [ov, i_up, ova, a_up, layF_1])), (by simpa [ov, ova, i_up, a_up] using htape), (by simpa [ov, ova, i_up, a_up] using hfault), (by simpa [ov, ova, i_up, a_up] using hrowby), (by simpa [ov, ova, i_up, a_up] using hdone), (by simpa [ov, ova, i_up, a_up] using hbest), (by simpa [ov, ova, i_up, a_up] using hmore), (by simpa [ov, ova, i_up, a_up] using hhooks), (by simpa [ov, ova, i_up, a_up] using haims), (by simpa [ov, ova, i_up, a_up] using hout), hstrs, (by simpa [ov, ova, i_up, a_up] using hmost), (by simpa [ov, ova, i_up, a_up] using hfire)⟩
  · obtain ⟨K1, I1, J1, X1, A1, B1, Q1, n1, s, hi1, hs, hks, ho, ew⟩ := image_w hi0 (show k < 2 by omega)
    refine ok_e ew ?_
    clear hfresh hIS hbegun htold htape hfault hrowby hdone hbest hmore hhooks haims hout hstrs hmost hfire hS0 hS11 hKz hi0 hex
    have hi := hi1
    obtain ⟨hfresh, hIS, hbegun, htold, htape, hfault, hrowby, hdone, hbest, hmore, hhooks, haims, hout, hstrs, hmost, hfire⟩ := hi
    have hS0 := hIS.1.1
    have hS11 := hIS.1.2.1
    have hKz := hS0.1
    have hX : ∀ f a, ¬ (f = 200 ∨ f = 201 ∨ f = 202) → i_up (i_up (i_up X1 200 s (X1 200 (z + 7))) 201 s (X1 201 (z + 7))) 202 s (X1 202 (z + 7)) f a = X1 f a := fun f a ha => by
      simp [i_up, show ¬ f = 200 by omega, show ¬ f = 201 by omega, show ¬ f = 202 by omega]
    have hn1 := hfresh.le hIS
    have hIS2 : IS z K1 (i_up (i_up (i_up X1 200 s (X1 200 (z + 7))) 201 s (X1 201 (z + 7))) 202 s (X1 202 (z + 7))) (a_up Q1 (z + 125) (va_up (Q1 (z + 125)) k (some s))) := by
      have h1 : IS z K1 (i_up (i_up (i_up X1 200 s (X1 200 (z + 7))) 201 s (X1 201 (z + 7))) 202 s (X1 202 (z + 7))) Q1 := IS_same hIS fun f hf a _ => hX f a fun q => by
        rcases q with rfl | rfl | rfl <;> revert hf <;> decide
      have eQ : ∀ j, j < 172 → j ≠ 125 → a_up Q1 (z + 125) (va_up (Q1 (z + 125)) k (some s)) (z + j) = Q1 (z + j) := fun j hj hj2 => by
        unfold a_up
        exact if_neg (by omega)
      obtain ⟨a, b, c, d, e, ⟨f1, f2⟩, g, i, j, k1, l, m1, n1, o, p, q1, q2, q3, q4⟩ := h1
      exact ⟨a, b, c, d, e, ⟨f1, by rw [eQ 91 (by decide) (by decide)]; exact f2⟩, by rw [eQ 24 (by decide) (by decide)]; exact g, i, j, k1, l, m1, n1, o, p, by rw [eQ 46 (by decide) (by decide)]; exact q1, q2, by rw [eQ 90 (by decide) (by decide)]; exact q3, by rw [eQ 90 (by decide) (by decide)]; exact q4⟩
    have hS11' := hIS2.1.2.1
    repeat' (with_reducible first | refine ok_lt ?_ | (refine ok_gdp ?_ ?_; first | exact hu | exact hS0 | exact hS11 | exact ha.r1 | exact ha.r2 | exact ha.r3 | exact ha.r4 | exact ha.r5 | assumption) | fail)
    rw [← hp]
    obtain ⟨kp', kn', e14, k1, k2, k3, k4⟩ := image14 (show k < 2 by omega) hbegun (I1 1100 (z + 126)) (A1 (z + 128)) (A1 (z + 131)) (A1 (z + 135)) (B1 (z + 132)) (B1 (z + 134))
    refine ok_e (x := (1, 0, 1, layF (I1 1122 (z + 126)) (A1 (z + 128)), kp', upd (A1 (z + 135)) k 1, kn')) e14 ?_
    repeat' (with_reducible first | refine ok_lt ?_ | (refine ok_gdp ?_ ?_; first | exact hu | exact hS0 | exact hS11 | exact ha.r1 | exact ha.r2 | exact ha.r3 | exact ha.r4 | exact ha.r5 | assumption) | fail)
    refine ok_t rfl (goes ?_ (by omega) (by omega))
    dsimp only
    obtain ⟨S, htold⟩ := htold.ex
    have ht2 : ToldS z S K1 (ov I1 [(1100, z + 126, 0), (1122, z + 126, 1)]) J1 (i_up (i_up (i_up X1 200 s (X1 200 (z + 7))) 201 s (X1 201 (z + 7))) 202 s (X1 202 (z + 7))) (ova A1 [(z + 126 + 2, layF (I1 1122 (z + 126)) (A1 (z + 128))), (z + 126 + 5, kp'), (z + 126 + 9, upd (A1 (z + 135)) k 1)]) (ova B1 [(z + 126 + 6, B1 (z + 126 + 6)), (z + 126 + 8, kn')]) (a_up Q1 (z + 125) (va_up (Q1 (z + 125)) k (some s))) (layF (ov I1 [(1100, z + 126, 0), (1122, z + 126, 1)] 1122 (z + 126)) (ova A1 [(z + 126 + 2, layF (I1 1122 (z + 126)) (A1 (z + 128))), (z + 126 + 5, kp'), (z + 126 + 9, upd (A1 (z + 135)) k 1)] (z + 128))) := by
      refine htold.image (show k < 2 by omega) hs hks ho (fun f a ha => ?_) (fun a ha h1 h2 => ?_) (by simp [ov, i_up, ova, a_up, layF_1]) (by simp [ova, a_up]) ⟨fun i hi => ?_, fun j hj => ?_⟩ (by simp [ova, a_up]) ⟨fun i hi => ?_, fun j hj => ?_⟩
      · exact ov_fr (fun p hp e => absurd (show Lo z a by
          simp only [List.mem_cons, List.not_mem_nil, or_false] at hp
          rcases hp with rfl | rfl <;> · dsimp only at e; unfold Lo; omega) ha)
      · have q1 : ¬ a = z + 126 + 2 := fun e => ha (by unfold Lo; omega)
        simp [ova, a_up, q1, show ¬ a = z + 126 + 5 by omega, show ¬ a = z + 126 + 9 by omega]
      · have e : ova A1 [(z + 126 + 2, layF (I1 1122 (z + 126)) (A1 (z + 128))), (z + 126 + 5, kp'), (z + 126 + 9, upd (A1 (z + 135)) k 1)] (z + 131) = kp' := by simp [ova, a_up]
        rw [e]
        exact k1 i hi
      · have e : ova A1 [(z + 126 + 2, layF (I1 1122 (z + 126)) (A1 (z + 128))), (z + 126 + 5, kp'), (z + 126 + 9, upd (A1 (z + 135)) k 1)] (z + 131) = kp' := by simp [ova, a_up]
        rw [e]
        exact k2 j hj
      · have e : ova B1 [(z + 126 + 6, B1 (z + 126 + 6)), (z + 126 + 8, kn')] (z + 134) = kn' := by simp [ova, a_up]
        rw [e]
        exact k3 i hi
      · have e : ova B1 [(z + 126 + 6, B1 (z + 126 + 6)), (z + 126 + 8, kn')] (z + 134) = kn' := by simp [ova, a_up]
        rw [e]
        exact k4 j hj
    have hst : StrQ adS z (a_up Q1 (z + 125) (va_up (Q1 (z + 125)) k (some s))) := by
      have eQ : ∀ j, j < 172 → j ≠ 125 → a_up Q1 (z + 125) (va_up (Q1 (z + 125)) k (some s)) (z + j) = Q1 (z + j) := fun j hj hj2 => by
        unfold a_up
        exact if_neg (by omega)
      unfold StrQ at hstrs ⊢
      simp (disch := decide) only [eQ]
      exact hstrs
    exact ⟨hfresh, hIS2, (Or.inr (by simp [ov, i_up, ova, a_up])), ht2.t, (by simpa [ov, ova, i_up, a_up] using htape), (by simpa [ov, ova, i_up, a_up] using hfault), (by simpa [ov, ova, i_up, a_up] using hrowby), (by simpa [ov, ova, i_up, a_up] using hdone), (by simpa [ov, ova, i_up, a_up] using hbest), (by simpa [ov, ova, i_up, a_up] using hmore), (by simpa [ov, ova, i_up, a_up] using hhooks), (by simpa [ov, ova, i_up, a_up] using haims), (by simpa [ov, ova, i_up, a_up] using hout), hst, (by simpa [ov, ova, i_up, a_up] using hmost), (by rw [hX 904 _ (by decide)]; simpa [ov, ova, i_up, a_up] using hfire)⟩
