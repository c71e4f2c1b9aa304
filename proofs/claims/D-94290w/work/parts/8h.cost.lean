/-! the plain law: cost -/
set_option maxRecDepth 100000
theorem ok_ltg {α β : Type} {P : α → Prop} {x : β} {f : β → Option α} (k : ∀ y, y = x → Ok (f y) P) : Ok (lt x f) P := k x rfl
theorem cost1_eq {adS : Nat → Nat} {z n : Nat} {K : gK} {I : gI} {J : gJ} {X : gX} {A : gI} {B : gJ} {Q : gX} (hi : Inv adS z K I J X A B Q n) (p q : Int32) :
    Ok (w1_cost z adS z p q K I J X A B Q n) (fun r => ∃ (I1 : gI) (X1 : gX) (A1 : gI), Chg z I X A I1 X1 A1 ∧ Ok (f14_cost p q (I 1100 (z + 126)) (I 1102 (z + 126)) (I 1122 (z + 126)) (I 1133 (z + 126)) (I 1134 (z + 126)) (I 1135 (z + 126)) (I 1136 (z + 126)) (I 1137 (z + 126)) (I 1138 (z + 126)) (I 1139 (z + 126)) (I 1140 (z + 126)) (I 1141 (z + 126)) (I 1142 (z + 126)) (A (z + 127)) (A (z + 128)) (A (z + 136)) (A (z + 137)) (A (z + 138)) (A (z + 139)) (A (z + 140)) (A (z + 141)) (A (z + 142)) (A (z + 143)) (A (z + 144))) (fun t => t.2.2.2.1 = 1 ∧ t.2.2.2.2.2.2.2.2.2.2.2.2.2.2.1 = layF (I 1122 (z + 126)) (A (z + 128)) ∧ ((t.2.1 = 1 ∧ I1 1 z = I 1 z ∧ t.2.2.1 = I 1102 (z + 126) ∧ r = (.inl n, a_up K n (some (.inl 19)), I1, J, X1, A1, B, Q, n + 1)) ∨ (t.2.1 = 0 ∧ I1 1 z = 0 ∧ t.2.2.1 = 0 ∧ r = (.inr t.1, K, I1, J, X1, A1, B, Q, n))))) := by
  obtain ⟨hfresh, hIS, hbegun, htold, htape, hfault, hrowby, hdone, hbest, hmore, hhooks, haims, hout, hstrs, hmost, hfire⟩ := hi
  have hS0 := hIS.1.1
  have hS11 := hIS.1.2.1
  have hKz := hS0.1
  have hI := hIS
  obtain ⟨⟨-, -, hL171⟩, ⟨hK7, hX9⟩, ⟨hS16, hX13⟩, ⟨hS60, hX15⟩, ⟨hS85, hX36⟩, ⟨⟨hS92, hS97, hS102, hS107⟩, hQ0, hQ1, hQ2, hQ3⟩, hG, ⟨hK2, hX4⟩, ⟨hK14, hX10, hX507, hX509⟩, ⟨hK15, hX11, hX607, hX609⟩, ⟨hS123, hX50, hX1007, hX1010⟩, ⟨hS80, hX35⟩, ⟨hS114, hX45⟩, ⟨hS38, hX14⟩, ⟨hS65, hX16⟩, hG2, hyards, hseen1, hseen2⟩ := hI
  have htd := htold.ex
  obtain ⟨S, hS, hsn, ⟨y, M, C, R, P, ⟨hy, hz, hsh, hm, hY⟩, hnm, ⟨pl, Np, hp, hp1, hp2, hkp, hkp2, hxp, hIN, hN, hw200, hth⟩, hsent⟩, himg⟩ := htd
  have hmen : ∀ (j m : Nat), (Q (y + 1)) j = some m → K m = some (.inl 12) := fun j m h => (hm j m h).1
  have hex : ∃ a, K a ≠ none := ⟨z, by rw [hKz]; exact fun h => nomatch h⟩
  obtain ⟨nt, bt, hnt, el, el14, hTP⟩ := htape
  obtain ⟨⟨hM, -, -, -, -, hP⟩, ⟨g303, w0', -⟩, -⟩ := id hY
  obtain ⟨H, D, s, bk, W0, hTY, hW0, g310, w5⟩ := hY.ty
  have hbad : ∀ (I1 A1 : gI), Chg z I X A I1 X A1 → I1 1 z = I 1 z → (∃ t, f14_cost p q (I 1100 (z + 126)) (I 1102 (z + 126)) (I 1122 (z + 126)) (I 1133 (z + 126)) (I 1134 (z + 126)) (I 1135 (z + 126)) (I 1136 (z + 126)) (I 1137 (z + 126)) (I 1138 (z + 126)) (I 1139 (z + 126)) (I 1140 (z + 126)) (I 1141 (z + 126)) (I 1142 (z + 126)) (A (z + 127)) (A (z + 128)) (A (z + 136)) (A (z + 137)) (A (z + 138)) (A (z + 139)) (A (z + 140)) (A (z + 141)) (A (z + 142)) (A (z + 143)) (A (z + 144)) = some t ∧ t.2.2.2.1 = 1 ∧ t.2.2.2.2.2.2.2.2.2.2.2.2.2.2.1 = layF (I 1122 (z + 126)) (A (z + 128)) ∧ t.2.1 = 1 ∧ t.2.2.1 = I 1102 (z + 126)) → Ok (w1_cost_j42 z adS z p q K n I1 J X A1 B Q) (fun r => ∃ (I1 : gI) (X1 : gX) (A1 : gI), Chg z I X A I1 X1 A1 ∧ Ok (f14_cost p q (I 1100 (z + 126)) (I 1102 (z + 126)) (I 1122 (z + 126)) (I 1133 (z + 126)) (I 1134 (z + 126)) (I 1135 (z + 126)) (I 1136 (z + 126)) (I 1137 (z + 126)) (I 1138 (z + 126)) (I 1139 (z + 126)) (I 1140 (z + 126)) (I 1141 (z + 126)) (I 1142 (z + 126)) (A (z + 127)) (A (z + 128)) (A (z + 136)) (A (z + 137)) (A (z + 138)) (A (z + 139)) (A (z + 140)) (A (z + 141)) (A (z + 142)) (A (z + 143)) (A (z + 144))) (fun t => t.2.2.2.1 = 1 ∧ t.2.2.2.2.2.2.2.2.2.2.2.2.2.2.1 = layF (I 1122 (z + 126)) (A (z + 128)) ∧ ((t.2.1 = 1 ∧ I1 1 z = I 1 z ∧ t.2.2.1 = I 1102 (z + 126) ∧ r = (.inl n, a_up K n (some (.inl 19)), I1, J, X1, A1, B, Q, n + 1)) ∨ (t.2.1 = 0 ∧ I1 1 z = 0 ∧ t.2.2.1 = 0 ∧ r = (.inr t.1, K, I1, J, X1, A1, B, Q, n))))) := by
    rintro I1 A1 hc e1 ⟨t, et, t1, t2, t3, t4⟩
    have h19 : (a_up K n (some (.inl 19))) n = some (.inl 19) := by unfold a_up; exact if_pos rfl
    unfold w1_cost_j42 w1_cost_j43
    rw [gdp_t (by decide), must0 hfresh hex, bind_is]
    dsimp only [trs]
    rw [gdp_t h19, gdp_t (by decide)]
    exact ok_i ⟨I1, X, A1, hc, ok_eq et ⟨t1, t2, Or.inl ⟨t3, e1, t4, rfl⟩⟩⟩
  unfold w1_cost
  rw [gdp_t hex]
  -- the model's refusals
  have hm1 : (f14_isIn (nI nt) 2 12 = some 0) ∨ (f14_isIn p 0 60 = some 0) ∨ (f14_isIn q ((60 : Int32) * p) 3600 = some 0) → ∃ t, f14_cost p q (I 1100 (z + 126)) (I 1102 (z + 126)) (I 1122 (z + 126)) (I 1133 (z + 126)) (I 1134 (z + 126)) (I 1135 (z + 126)) (I 1136 (z + 126)) (I 1137 (z + 126)) (I 1138 (z + 126)) (I 1139 (z + 126)) (I 1140 (z + 126)) (I 1141 (z + 126)) (I 1142 (z + 126)) (A (z + 127)) (A (z + 128)) (A (z + 136)) (A (z + 137)) (A (z + 138)) (A (z + 139)) (A (z + 140)) (A (z + 141)) (A (z + 142)) (A (z + 143)) (A (z + 144)) = some t ∧ t.2.2.2.1 = 1 ∧ t.2.2.2.2.2.2.2.2.2.2.2.2.2.2.1 = layF (I 1122 (z + 126)) (A (z + 128)) ∧ t.2.1 = 1 ∧ t.2.2.1 = I 1102 (z + 126) := by
    intro h
    unfold f14_cost
    rw [lay_ok hbegun, bind_is, el14]
    have hj : ∀ (g : Option Int32) (F : Option (Int32 × Int32 × Int32 × Int32 × Int32 × Int32 × Int32 × Int32 × Int32 × Int32 × Int32 × Int32 × Int32 × Int32 × (Nat → Int32) × (Nat → Int32) × (Nat → Int32) × (Nat → Int32) × (Nat → Int32) × (Nat → Int32) × (Nat → Int32) × (Nat → Int32) × (Nat → Int32) × (Nat → Int32))), (g = some 0 ∨ ∃ v, g = some v ∧ (v = 0 ∨ ∃ t, F = some t ∧ t.2.2.2.1 = 1 ∧ t.2.2.2.2.2.2.2.2.2.2.2.2.2.2.1 = layF (I 1122 (z + 126)) (A (z + 128)) ∧ t.2.1 = 1 ∧ t.2.2.1 = nI nt)) → ∃ t, (g.bind fun v => if v = 0 then f14_cost_j43 ((1 : Int32), layF (I 1122 (z + 126)) (A (z + 128))) (I 1100 (z + 126)) (nI nt) (I 1133 (z + 126)) (I 1134 (z + 126)) (I 1135 (z + 126)) (I 1136 (z + 126)) (I 1137 (z + 126)) (I 1138 (z + 126)) (I 1139 (z + 126)) (I 1140 (z + 126)) (I 1141 (z + 126)) (I 1142 (z + 126)) (A (z + 136)) (A (z + 137)) (A (z + 138)) (A (z + 139)) (A (z + 140)) (A (z + 141)) (A (z + 142)) (A (z + 143)) (A (z + 144)) else F) = some t ∧ t.2.2.2.1 = 1 ∧ t.2.2.2.2.2.2.2.2.2.2.2.2.2.2.1 = layF (I 1122 (z + 126)) (A (z + 128)) ∧ t.2.1 = 1 ∧ t.2.2.1 = nI nt := by
      intro g F h
      have h0 : ∀ v : Int32, v = 0 → ∃ t, (if v = 0 then f14_cost_j43 ((1 : Int32), layF (I 1122 (z + 126)) (A (z + 128))) (I 1100 (z + 126)) (nI nt) (I 1133 (z + 126)) (I 1134 (z + 126)) (I 1135 (z + 126)) (I 1136 (z + 126)) (I 1137 (z + 126)) (I 1138 (z + 126)) (I 1139 (z + 126)) (I 1140 (z + 126)) (I 1141 (z + 126)) (I 1142 (z + 126)) (A (z + 136)) (A (z + 137)) (A (z + 138)) (A (z + 139)) (A (z + 140)) (A (z + 141)) (A (z + 142)) (A (z + 143)) (A (z + 144)) else F) = some t ∧ t.2.2.2.1 = 1 ∧ t.2.2.2.2.2.2.2.2.2.2.2.2.2.2.1 = layF (I 1122 (z + 126)) (A (z + 128)) ∧ t.2.1 = 1 ∧ t.2.2.1 = nI nt := by
        intro v hv
        rw [if_pos hv]
        unfold f14_cost_j43 f14_refuse
        exact ⟨_, rfl, rfl, rfl, rfl, rfl⟩
      rcases h with rfl | ⟨v, rfl, h⟩
      · exact h0 0 rfl
      · rw [bind_is]
        rcases h with h | ⟨t, e, h⟩
        · exact h0 v h
        · by_cases q : v = 0
          · exact h0 v q
          · rw [if_neg q]
            exact ⟨t, e, h⟩
    have hv : ∀ a b c : Int32, ∃ v, f14_isIn a b c = some v := fun a b c => ⟨_, isIn14 a b c⟩
    refine hj _ _ ?_
    obtain ⟨v1, e1⟩ := hv (nI nt) 2 12
    rcases h with h | h
    · exact Or.inl h
    · refine Or.inr ⟨v1, e1, Or.inr (hj _ _ ?_)⟩
      obtain ⟨v2, e2⟩ := hv p 0 60
      rcases h with h | h
      · exact Or.inl h
      · refine Or.inr ⟨v2, e2, Or.inr ?_⟩
        rw [lt_is]
        exact hj _ _ (Or.inl h)
  rcases isIn_cc p (a := 0) (b := 60) (A := 0) (B := 60) rfl rfl (by decide) (by decide) with ⟨e, e', -⟩ | ⟨e, e', mn, -, hmn, rfl⟩
  · rw [e, bind_is, if_pos rfl]
    exact hbad I A Chg.refl rfl (hm1 (Or.inr (Or.inl e')))
  rw [e, bind_is, if_neg (show ¬ (1 : Int32) = 0 by decide), lt_is, show (60 : Int32) = nI 60 from rfl, pk_mul]
  rcases isIn_cc q (a := 60 * mn) (b := 3600) (A := nI (60 * mn)) (B := 3600) rfl rfl (by omega) (by decide) with ⟨u, u', -⟩ | ⟨u, u', tk, htk1, htk2, rfl⟩
  · rw [u, bind_is, if_pos rfl]
    exact hbad I A Chg.refl rfl (hm1 (Or.inr (Or.inr (by rw [show (60 : Int32) = nI 60 from rfl, pk_mul]; exact u'))))
  rw [u, bind_is, if_neg (show ¬ (1 : Int32) = 0 by decide), gdp_t hKz, lt_is, hy, bind_is, gdp_t hS0, gdp_t hsh, gdp_t hK7, gdp_t hX9]
  have e303 : I 303 y = nI M := g303
  have hc70 : ∀ (a : Int32) (v : Nat → Int32), Chg z I X A (ov I [(18, z, a)]) X (ova A [(z + 1, A (z + 1)), (z + 70, v)]) := fun a v => (Chg.refl.putI (by simp only [List.forall_mem_cons]; (repeat' apply And.intro); all_goals first | exact fun _ h => absurd h (List.not_mem_nil) | exact (by unfold Lo; omega) | exact Or.inl (by unfold Sc; omega) | exact Or.inl (by unfold ScM; omega) | exact Or.inr rfl | exact Or.inr trivial | exact Or.inl trivial | exact Or.inr (Or.inl trivial) | exact Or.inr (Or.inr ⟨trivial, by omega⟩) | omega) (by rfl)).putA (by simp only [List.forall_mem_cons]; (repeat' apply And.intro); all_goals first | exact fun _ h => absurd h (List.not_mem_nil) | exact (by unfold Lo; omega) | exact Or.inl (by unfold Sc; omega) | exact Or.inl (by unfold ScM; omega) | exact Or.inr rfl | exact Or.inr trivial | exact Or.inl trivial | exact Or.inr (Or.inl trivial) | exact Or.inr (Or.inr ⟨trivial, by omega⟩) | omega)
  have h181 : ∀ a : Int32, ov I [(18, z, a)] 1 z = I 1 z := fun a => by simp [ov, i_up]
  rcases isIn_cc (nI nt) (a := 2) (b := 12) (A := 2) (B := 12) rfl rfl (by decide) (by decide) with ⟨v, v', -⟩ | ⟨v, v', j, hj1, hj2, hj3⟩
  · have ea : f1_areAsked 2 12 (nI nt) (I 18 z) (nI M) (A (z + 1)) (A (z + 70)) = some (0, I 18 z, A (z + 70)) := by
      unfold f1_areAsked
      rw [v, bind_is, if_pos rfl]
    refine ok_e (x := (0, I 18 z, A (z + 70))) (by rw [el, e303]; exact ea) ?_
    simp only [lt_is, if_true]
    exact hbad _ _ (hc70 _ _) (h181 _) (hm1 (Or.inl v'))
  have hjn : nt = j := (nI_eq (by omega) (by omega)).mp hj3
  subst hjn
  obtain ⟨x, ex, r, er, hr⟩ := cost_ask (team := A (z + 136)) (am := I 18 z) (bg := 1) (asked := A (z + 70)) hTP hnt hM w0' hj1 hj2
  refine ok_e (x := x) (by rw [el, e303]; exact ex) ?_
  simp only [lt_is]
  -- what the model does up to its loop
  have hmod : ∀ (F : Option (Int32 × Int32 × Int32 × Int32 × Int32 × Int32 × Int32 × Int32 × Int32 × Int32 × Int32 × Int32 × Int32 × Int32 × (Nat → Int32) × (Nat → Int32) × (Nat → Int32) × (Nat → Int32) × (Nat → Int32) × (Nat → Int32) × (Nat → Int32) × (Nat → Int32) × (Nat → Int32) × (Nat → Int32)) → Prop), F (Sum.elim (f14_cost_e10_0 (nI mn) (nI tk) (nI nt) (I 1133 (z + 126)) (I 1134 (z + 126)) (I 1135 (z + 126)) (I 1136 (z + 126)) (I 1137 (z + 126)) (I 1138 (z + 126)) (I 1139 (z + 126)) (I 1140 (z + 126)) (I 1141 (z + 126)) (I 1142 (z + 126)) (A (z + 137)) (A (z + 138)) (A (z + 139)) (A (z + 140)) (A (z + 141)) (A (z + 142)) (A (z + 143)) (A (z + 144)) ((1 : Int32), layF (I 1122 (z + 126)) (A (z + 128)))) (f14_cost_e10_1 (I 1100 (z + 126)) (nI nt) (I 1133 (z + 126)) (I 1134 (z + 126)) (I 1135 (z + 126)) (I 1136 (z + 126)) (I 1137 (z + 126)) (I 1138 (z + 126)) (I 1139 (z + 126)) (I 1140 (z + 126)) (I 1141 (z + 126)) (I 1142 (z + 126)) (A (z + 137)) (A (z + 138)) (A (z + 139)) (A (z + 140)) (A (z + 141)) (A (z + 142)) (A (z + 143)) (A (z + 144)) ((1 : Int32), layF (I 1122 (z + 126)) (A (z + 128)))) r) → F (f14_cost (nI mn) (nI tk) (I 1100 (z + 126)) (I 1102 (z + 126)) (I 1122 (z + 126)) (I 1133 (z + 126)) (I 1134 (z + 126)) (I 1135 (z + 126)) (I 1136 (z + 126)) (I 1137 (z + 126)) (I 1138 (z + 126)) (I 1139 (z + 126)) (I 1140 (z + 126)) (I 1141 (z + 126)) (I 1142 (z + 126)) (A (z + 127)) (A (z + 128)) (A (z + 136)) (A (z + 137)) (A (z + 138)) (A (z + 139)) (A (z + 140)) (A (z + 141)) (A (z + 142)) (A (z + 143)) (A (z + 144))) := by
    intro F h
    unfold f14_cost
    rw [lay_ok hbegun, bind_is, el14, v', bind_is, if_neg (show ¬ (1 : Int32) = 0 by decide), e', bind_is, if_neg (show ¬ (1 : Int32) = 0 by decide), lt_is, show (60 : Int32) = nI 60 from rfl, pk_mul, u', bind_is, if_neg (show ¬ (1 : Int32) = 0 by decide), er, bind_is]
    exact h
  rcases hr with ⟨x0, t, rfl⟩ | ⟨x1, x2, tm, rfl, bb, hA, -⟩
  · rw [if_pos x0]
    refine hbad _ _ (hc70 _ _) (h181 _) (hmod (fun o => ∃ t, o = some t ∧ t.2.2.2.1 = 1 ∧ t.2.2.2.2.2.2.2.2.2.2.2.2.2.2.1 = layF (I 1122 (z + 126)) (A (z + 128)) ∧ t.2.1 = 1 ∧ t.2.2.1 = I 1102 (z + 126)) ?_)
    show ∃ t, f14_cost_e10_1 _ _ _ _ _ _ _ _ _ _ _ _ _ _ _ _ _ _ _ _ _ _ = some t ∧ _
    unfold f14_cost_e10_1 f14_refuse
    exact ⟨_, rfl, rfl, rfl, rfl, el14.symm⟩
  rw [if_neg (by rw [x1]; decide)]
  -- both sides ask the same men
  have hT : ∀ k, k < nt → ∃ m, m < M ∧ x.2.2 k = nI m ∧ tm k = nI m := fun k hk => ⟨bb k, hA k hk⟩
  obtain ⟨I1, hI1⟩ : ∃ I1, I1 = ov (ov I [(18, z, x.2.1)]) [(1, z, 0), (2, z, I 1 z)] := ⟨_, rfl⟩
  obtain ⟨A1, hA1⟩ : ∃ A1, A1 = ova A [(z + 1, A (z + 1)), (z + 70, x.2.2)] := ⟨_, rfl⟩
  have hcA : Chg z I X A I1 X A1 := by
    subst hI1 hA1
    exact (hc70 _ _).putI (by simp only [List.forall_mem_cons]; exact ⟨⟨by unfold Lo; omega, by omega⟩, ⟨by unfold Lo; omega, by omega⟩, fun _ h => absurd h (List.not_mem_nil)⟩) (by rfl)
  have eIy : ∀ f, 300 ≤ f → I1 f = I f := fun f hf => by
    subst hI1
    funext a
    simp [ov, i_up, show ¬ f = 1 by omega, show ¬ f = 2 by omega, show ¬ f = 18 by omega]
  have eI18 : I1 18 z = nI nt := by
    subst hI1
    simp [ov, i_up, x2]
  have eA70 : A1 (z + 70) = x.2.2 := by
    subst hA1
    simp [ova, a_up]
  have hrow1 := fun (q1 q2 q3 q4 q5 q6 q7 q8 q9 q10 : Int32) (rest load done queue waits most comes state : Nat → Int32) => rows_eq hY hTY hW0 hj1 hj2 hT htk2 (I1 702 (z + 16)) (I1 703 (z + 16)) (I1 704 (z + 16)) (I1 705 (z + 16)) (I1 714 (z + 16)) (I1 715 (z + 16)) (I1 716 (z + 16)) (I1 717 (z + 16)) (I1 718 (z + 16)) (A1 (z + 17)) (A1 (z + 18)) (A1 (z + 19)) (A1 (z + 20)) (A1 (z + 21)) (A1 (z + 22)) (A1 (z + 23)) (A1 (z + 37)) (fun j => A1 ((z + 25) + j)) q1 q2 q3 q4 q5 q6 q7 q8 q9 q10 rest load done queue waits most comes state
  obtain ⟨y1, ey1, t1, et1, T1, hT1, o1, o1'⟩ := hrow1 (I 1133 (z + 126)) (I 1134 (z + 126)) (I 1135 (z + 126)) (I 1136 (z + 126)) (I 1137 (z + 126)) (I 1138 (z + 126)) (I 1139 (z + 126)) (I 1140 (z + 126)) (I 1141 (z + 126)) (I 1142 (z + 126)) (A (z + 137)) (A (z + 138)) (A (z + 139)) (A (z + 140)) (A (z + 141)) (A (z + 142)) (A (z + 143)) (A (z + 144))
  have hd1 : 0 + 1 ≤ 1 ∧ 0 + 6 ≤ 6 := by decide
  obtain ⟨x17, l70⟩ := hS0.len 5 rfl
  have hap : z + 37 < z + 70 ∨ z + 70 < z + 16 := by omega
  have hap2 : z + 64 < z + 70 ∨ z + 70 < z + 60 := by omega
  have hp1 : ∀ {f v}, f ≠ 701 → ov X [(701, z + 16, v)] f = X f := fun {f v} hf => by funext a; simp [ov, i_up, hf]
  have hp2 : ∀ {f v u}, f ≠ 701 → f ≠ 801 → ov (ov X [(701, z + 16, v)]) [(801, z + 60, u)] f = X f := fun {f v u} hf hf2 => by funext a; simp [ov, i_up, hf, hf2]
  unfold w1_cost_j43
  refine ok_gdp hd1 (ok_e (must1 hex) ?_)
  dsimp only [trs]
  refine ok_gdp hd1 (ok_gdp hS0 (ok_e (x := ((0 : Int32), I 1 z)) (by unfold f1_taken; rw [h181]) (ok_lt ?_)))
  dsimp only
  rw [← hI1, ← hA1]
  refine ok_gdp hKz (ok_lt (ok_lt (ok_lt (ok_e hX9 (ok_gdp hK7 (ok_lt (ok_e hy (ok_gdp hsh.1 (ok_lt (ok_e x17 (ok_e l70 (ok_e hy (ok_gdp hsh (ok_gdp hS16 (ok_gdp hK7 (ok_gdp hX13 (ok_gdp hX9 (ok_gdp hap (ok_gdp hG (ok_gdp hmen ?_))))))))))))))))))))
  refine ok_e (x := y1) (by rw [eI18, eA70]; simp only [eIy _ (show 300 ≤ 310 by decide), eIy _ (show 300 ≤ 306 by decide), eIy _ (show 300 ≤ 307 by decide), eIy _ (show 300 ≤ 308 by decide), eIy _ (show 300 ≤ 309 by decide), eIy _ (show 300 ≤ 311 by decide), eIy _ (show 300 ≤ 312 by decide), eIy _ (show 300 ≤ 313 by decide), eIy _ (show 300 ≤ 1201 by decide), eIy _ (show 300 ≤ 1203 by decide)]; rw [show I 310 y = nI W0 from g310]; simpa only [eIy _ (show 300 ≤ 702 by decide), eIy _ (show 300 ≤ 703 by decide), eIy _ (show 300 ≤ 704 by decide), eIy _ (show 300 ≤ 705 by decide), eIy _ (show 300 ≤ 714 by decide), eIy _ (show 300 ≤ 715 by decide), eIy _ (show 300 ≤ 716 by decide), eIy _ (show 300 ≤ 717 by decide), eIy _ (show 300 ≤ 718 by decide)] using ey1) (ok_ltg fun I2 hI2 => ok_ltg fun X2 hX2 => ok_ltg fun A2 hA2 => ?_)
  have hc2 : Chg z I X A I2 X2 A2 := by
    subst hI2 hX2 hA2
    exact (((hcA.putI (by simp only [List.forall_mem_cons]; (repeat' apply And.intro); all_goals first | exact fun _ h => absurd h (List.not_mem_nil) | exact (by unfold Lo; omega) | exact Or.inl (by unfold Sc; omega) | exact Or.inl (by unfold ScM; omega) | exact Or.inr rfl | exact Or.inr trivial | exact Or.inl trivial | exact Or.inr (Or.inl trivial) | exact Or.inr (Or.inr ⟨trivial, by omega⟩) | omega) (by rfl)).putX (by simp only [List.forall_mem_cons]; (repeat' apply And.intro); all_goals first | exact fun _ h => absurd h (List.not_mem_nil) | exact (by unfold Lo; omega) | exact Or.inl (by unfold Sc; omega) | exact Or.inl (by unfold ScM; omega) | exact Or.inr rfl | exact Or.inr trivial | exact Or.inl trivial | exact Or.inr (Or.inl trivial) | exact Or.inr (Or.inr ⟨trivial, by omega⟩) | omega)).grid (by decide)).putA (by simp only [List.forall_mem_cons]; (repeat' apply And.intro); all_goals first | exact fun _ h => absurd h (List.not_mem_nil) | exact (by unfold Lo; omega) | exact Or.inl (by unfold Sc; omega) | exact Or.inl (by unfold ScM; omega) | exact Or.inr rfl | exact Or.inr trivial | exact Or.inl trivial | exact Or.inr (Or.inl trivial) | exact Or.inr (Or.inr ⟨trivial, by omega⟩) | omega)
  have e2X : ∀ f, f ≠ 701 → X2 f = X f := fun f hf => by rw [hX2]; exact hp1 hf
  have e2y : ∀ f, f = 306 ∨ f = 307 ∨ f = 308 ∨ f = 309 ∨ f = 310 ∨ f = 311 ∨ f = 312 ∨ f = 313 ∨ f = 1201 ∨ f = 1202 ∨ f = 1203 ∨ f = 18 → I2 f = I1 f := fun f hf => by
    subst hI2
    rcases hf with rfl | rfl | rfl | rfl | rfl | rfl | rfl | rfl | rfl | rfl | rfl | rfl <;> exact ov_no (by rfl)
  have e2z : I2 1 z = 0 := by
    subst hI2 hI1
    simp [ov, i_up]
  have e2A : A2 (z + 70) = x.2.2 := by
    subst hA2
    rw [← eA70]
    simp [ova, a_up]
  have hS0b : Sh K X2 z 0 rows0 := hX2 ▸ Sh.ov (by rfl) hS0
  have hshb : Sh K X2 y 3 rows3 := hX2 ▸ Sh.ov (by rfl) hsh
  have hS60b : Sh K X2 (z + 60) 8 rows8 := hX2 ▸ Sh.ov (by rfl) hS60
  have h17b : X2 17 z = some (z + 70) := by rw [e2X 17 (by decide)]; exact x17
  have h200b : X2 200 (z + 7) = some y := by rw [e2X 200 (by decide)]; exact hy
  have h15b : X2 15 z = some (z + 60) := by rw [e2X 15 (by decide)]; exact hX15
  have h9b : X2 9 z = some (z + 7) := by rw [e2X 9 (by decide)]; exact hX9
  refine ok_lt (ok_lt (ok_lt (ok_e h17b (ok_e l70 (ok_e h200b (ok_gdp hS0b (ok_gdp hshb (ok_gdp hS60b (ok_gdp h15b (ok_gdp h9b (ok_gdp hap2 (ok_gdp hmen ?_))))))))))))
  obtain ⟨y2, ey2, t2, et2, T2, D2, hT2, hD2, o2, o2', o3, o3'⟩ := runs_eq hY hTY hW0 hj2 hT (show 60 * mn ≤ 3600 by omega) g310 (I2 802 (z + 60)) (I2 803 (z + 60)) (I2 804 (z + 60)) (I2 805 (z + 60)) (I2 809 (z + 60)) (A2 (z + 61)) (A2 (z + 62)) (A2 (z + 63)) (A2 (z + 64)) t1.2.1 t1.2.2.1 t1.2.2.2.1 t1.2.2.2.2.1 t1.2.2.2.2.2.1 t1.2.2.2.2.2.2.1 t1.2.2.2.2.2.2.2.1 t1.2.2.2.2.2.2.2.2.1 t1.2.2.2.2.2.2.2.2.2.1 t1.2.2.2.2.2.2.2.2.2.2.1 t1.2.2.2.2.2.2.2.2.2.2.2.1 t1.2.2.2.2.2.2.2.2.2.2.2.2.1 t1.2.2.2.2.2.2.2.2.2.2.2.2.2.1 t1.2.2.2.2.2.2.2.2.2.2.2.2.2.2.1 t1.2.2.2.2.2.2.2.2.2.2.2.2.2.2.2.1 t1.2.2.2.2.2.2.2.2.2.2.2.2.2.2.2.2.1 t1.2.2.2.2.2.2.2.2.2.2.2.2.2.2.2.2.2.1 t1.2.2.2.2.2.2.2.2.2.2.2.2.2.2.2.2.2.2
  refine ok_e (x := y2) (by
    rw [show I2 18 z = nI nt by rw [e2y 18 (by omega)]; exact eI18, e2A, show (60 : Int32) * nI mn = nI (60 * mn) by rw [show (60 : Int32) = nI 60 from rfl, pk_mul]]
    rw [show I2 306 = I 306 by rw [e2y _ (by omega), eIy _ (by omega)], show I2 307 = I 307 by rw [e2y _ (by omega), eIy _ (by omega)], show I2 308 = I 308 by rw [e2y _ (by omega), eIy _ (by omega)], show I2 309 = I 309 by rw [e2y _ (by omega), eIy _ (by omega)], show I2 310 y = nI W0 by rw [e2y _ (by omega), eIy _ (by omega)]; exact g310, show I2 1202 = I 1202 by rw [e2y _ (by omega), eIy _ (by omega)]]
    exact ey2) (ok_ltg fun I3 hI3 => ok_ltg fun X3 hX3 => ok_ltg fun A3 hA3 => ?_)
  have hc3 : Chg z I X A I3 X3 A3 := by
    subst hI3 hX3 hA3
    exact ((hc2.putI (by simp only [List.forall_mem_cons]; (repeat' apply And.intro); all_goals first | exact fun _ h => absurd h (List.not_mem_nil) | exact (by unfold Lo; omega) | exact Or.inl (by unfold Sc; omega) | exact Or.inl (by unfold ScM; omega) | exact Or.inr rfl | exact Or.inr trivial | exact Or.inl trivial | exact Or.inr (Or.inl trivial) | exact Or.inr (Or.inr ⟨trivial, by omega⟩) | omega) (by rfl)).putX (by simp only [List.forall_mem_cons]; (repeat' apply And.intro); all_goals first | exact fun _ h => absurd h (List.not_mem_nil) | exact (by unfold Lo; omega) | exact Or.inl (by unfold Sc; omega) | exact Or.inl (by unfold ScM; omega) | exact Or.inr rfl | exact Or.inr trivial | exact Or.inl trivial | exact Or.inr (Or.inl trivial) | exact Or.inr (Or.inr ⟨trivial, by omega⟩) | omega)).putA (by simp only [List.forall_mem_cons]; (repeat' apply And.intro); all_goals first | exact fun _ h => absurd h (List.not_mem_nil) | exact (by unfold Lo; omega) | exact Or.inl (by unfold Sc; omega) | exact Or.inl (by unfold ScM; omega) | exact Or.inr rfl | exact Or.inr trivial | exact Or.inl trivial | exact Or.inr (Or.inl trivial) | exact Or.inr (Or.inr ⟨trivial, by omega⟩) | omega)
  have e3X : ∀ f, f ≠ 701 → f ≠ 801 → X3 f = X f := fun f hf hf2 => by rw [hX3, hX2]; exact hp2 hf hf2
  have e3y : ∀ f, f = 306 ∨ f = 307 ∨ f = 308 ∨ f = 309 ∨ f = 310 ∨ f = 311 ∨ f = 312 ∨ f = 313 ∨ f = 1201 ∨ f = 1202 ∨ f = 1203 ∨ f = 18 → I3 f = I1 f := fun f hf => by
    rw [← e2y f hf]
    subst hI3
    rcases hf with rfl | rfl | rfl | rfl | rfl | rfl | rfl | rfl | rfl | rfl | rfl | rfl <;> exact ov_no (by rfl)
  have e3z : I3 1 z = 0 := by
    rw [← e2z, hI3]
    simp [ov, i_up]
  have e3w : I3 803 (z + 60) = nI (W0 - D2) := by
    rw [← o3, hI3]
    simp [ov, i_up]
  have e3A : A3 (z + 70) = x.2.2 := by
    rw [hA3, ← e2A]
    simp [ova, a_up]
  have hS0c : Sh K X3 z 0 rows0 := hX3 ▸ Sh.ov (by rfl) hS0b
  have hshc : Sh K X3 y 3 rows3 := hX3 ▸ Sh.ov (by rfl) hshb
  have hS16c : Sh K X3 (z + 16) 7 rows7 := hX3 ▸ Sh.ov (by rfl) (hX2 ▸ Sh.ov (by rfl) hS16)
  have h17c : X3 17 z = some (z + 70) := by rw [e3X 17 (by decide) (by decide)]; exact x17
  have h200c : X3 200 (z + 7) = some y := by rw [e3X 200 (by decide) (by decide)]; exact hy
  have h15c : X3 15 z = some (z + 60) := by rw [e3X 15 (by decide) (by decide)]; exact hX15
  have h13c : X3 13 z = some (z + 16) := by rw [e3X 13 (by decide) (by decide)]; exact hX13
  have h9c : X3 9 z = some (z + 7) := by rw [e3X 9 (by decide) (by decide)]; exact hX9
  refine ok_lt (ok_lt (ok_lt (ok_lt (ok_lt (ok_lt (ok_e h15c (ok_gdp hS60.1 (ok_lt (ok_e h17c (ok_e l70 (ok_e h200c (ok_gdp hS0c (ok_gdp hshc (ok_gdp hS16c (ok_gdp h13c (ok_gdp h9c (ok_gdp hap (ok_gdp hmen ?_))))))))))))))))))
  obtain ⟨y3, ey3, t3, et3, T3, hT3, o4, o4'⟩ := rows_eq hY hTY (show W0 - D2 ≤ 9999 by omega) hj1 hj2 hT (show tk - 60 * mn ≤ 3600 by omega) (I3 702 (z + 16)) (I3 703 (z + 16)) (I3 704 (z + 16)) (I3 705 (z + 16)) (I3 714 (z + 16)) (I3 715 (z + 16)) (I3 716 (z + 16)) (I3 717 (z + 16)) (I3 718 (z + 16)) (A3 (z + 17)) (A3 (z + 18)) (A3 (z + 19)) (A3 (z + 20)) (A3 (z + 21)) (A3 (z + 22)) (A3 (z + 23)) (A3 (z + 37)) (fun j => A3 ((z + 25) + j)) t2.2.1 t2.2.2.1 t2.2.2.2.1 t2.2.2.2.2.1 t2.2.2.2.2.2.1 t2.2.2.2.2.2.2.1 t2.2.2.2.2.2.2.2.1 t2.2.2.2.2.2.2.2.2.1 t2.2.2.2.2.2.2.2.2.2.1 t2.2.2.2.2.2.2.2.2.2.2.1 t2.2.2.2.2.2.2.2.2.2.2.2.1 t2.2.2.2.2.2.2.2.2.2.2.2.2.1 t2.2.2.2.2.2.2.2.2.2.2.2.2.2.1 t2.2.2.2.2.2.2.2.2.2.2.2.2.2.2.1 t2.2.2.2.2.2.2.2.2.2.2.2.2.2.2.2.1 t2.2.2.2.2.2.2.2.2.2.2.2.2.2.2.2.2.1 t2.2.2.2.2.2.2.2.2.2.2.2.2.2.2.2.2.2.1 t2.2.2.2.2.2.2.2.2.2.2.2.2.2.2.2.2.2.2
  have e60 : (60 : Int32) * nI mn = nI (60 * mn) := by rw [show (60 : Int32) = nI 60 from rfl, pk_mul]
  refine ok_e (x := y3) (by
    rw [show I3 18 z = nI nt by rw [e3y 18 (by omega)]; exact eI18, e3A, e60, pk_sub htk1, e3w]
    rw [show I3 306 = I 306 by rw [e3y _ (by omega), eIy _ (by omega)], show I3 307 = I 307 by rw [e3y _ (by omega), eIy _ (by omega)], show I3 308 = I 308 by rw [e3y _ (by omega), eIy _ (by omega)], show I3 309 = I 309 by rw [e3y _ (by omega), eIy _ (by omega)], show I3 311 = I 311 by rw [e3y _ (by omega), eIy _ (by omega)], show I3 312 = I 312 by rw [e3y _ (by omega), eIy _ (by omega)], show I3 313 = I 313 by rw [e3y _ (by omega), eIy _ (by omega)], show I3 1201 = I 1201 by rw [e3y _ (by omega), eIy _ (by omega)], show I3 1203 = I 1203 by rw [e3y _ (by omega), eIy _ (by omega)]]
    exact ey3) (ok_ltg fun I4 hI4 => ok_ltg fun X4 hX4 => ok_ltg fun A4 hA4 => ok_lt (ok_gdp hd1 (ok_i ?_)))
  have hc4 : Chg z I X A I4 X4 A4 := by
    subst hI4 hX4 hA4
    exact (((hc3.putI (by simp only [List.forall_mem_cons]; (repeat' apply And.intro); all_goals first | exact fun _ h => absurd h (List.not_mem_nil) | exact (by unfold Lo; omega) | exact Or.inl (by unfold Sc; omega) | exact Or.inl (by unfold ScM; omega) | exact Or.inr rfl | exact Or.inr trivial | exact Or.inl trivial | exact Or.inr (Or.inl trivial) | exact Or.inr (Or.inr ⟨trivial, by omega⟩) | omega) (by rfl)).putX (by simp only [List.forall_mem_cons]; (repeat' apply And.intro); all_goals first | exact fun _ h => absurd h (List.not_mem_nil) | exact (by unfold Lo; omega) | exact Or.inl (by unfold Sc; omega) | exact Or.inl (by unfold ScM; omega) | exact Or.inr rfl | exact Or.inr trivial | exact Or.inl trivial | exact Or.inr (Or.inl trivial) | exact Or.inr (Or.inr ⟨trivial, by omega⟩) | omega)).grid (by decide)).putA (by simp only [List.forall_mem_cons]; (repeat' apply And.intro); all_goals first | exact fun _ h => absurd h (List.not_mem_nil) | exact (by unfold Lo; omega) | exact Or.inl (by unfold Sc; omega) | exact Or.inl (by unfold ScM; omega) | exact Or.inr rfl | exact Or.inr trivial | exact Or.inl trivial | exact Or.inr (Or.inl trivial) | exact Or.inr (Or.inr ⟨trivial, by omega⟩) | omega)
  have e4z : I4 1 z = 0 := by
    rw [← e3z, hI4]
    simp [ov, i_up]
  refine ⟨I4, X4, A4, hc4, hmod (fun o => Ok o _) ?_⟩
  show Ok (f14_cost_e10_0 _ _ _ _ _ _ _ _ _ _ _ _ _ _ _ _ _ _ _ _ _ _ tm) _
  have w5' : ∀ (F : Int32 → Option (Int32 × Int32 × Int32 × Int32 × Int32 × Int32 × Int32 × Int32 × Int32 × Int32 × Int32 × Int32 × Int32 × Int32 × (Nat → Int32) × (Nat → Int32) × (Nat → Int32) × (Nat → Int32) × (Nat → Int32) × (Nat → Int32) × (Nat → Int32) × (Nat → Int32) × (Nat → Int32) × (Nat → Int32))), (gd (inb (5 : Int32) 800) <| lt (layF (I 1122 (z + 126)) (A (z + 128)) (5 : Int32).toNatClampNeg) F) = F (nI W0) := fun F => by
    rw [gd_t (by decide), lt_is]
    exact congrArg F w5
  unfold f14_cost_e10_0 f14_take
  rw [bind_is]
  dsimp only
  rw [w5', et1, bind_is, w5', lt_is, e60, et2, bind_is, lt_is, w5', lt_is, lt_is, lt_is, o3', pk_sub hD2, pk_sub htk1]
  rw [o3'] at et3
  rw [et3, bind_is, lt_is]
  refine ok_i ⟨rfl, rfl, Or.inr ⟨rfl, e4z, rfl, ?_⟩⟩
  rw [o1, o2, o4, o1', o2', o4']
theorem case14 {adS : Nat → Nat} {z L m n u v : Nat} {xs : Nat → Int32} {K : gK} {I : gI} {J : gJ} {X : gX} {A : gI} {B : gJ} {Q : gX} (hi : Inv adS z K I J X A B Q n) (ha : At L m) (hb : u + 105 ≤ 1200128 ∧ v + 5502 ≤ 5501098) : Ok (w_law_j640 z adS z L xs (z + 126) (z + 171) (nI m) K I J X A B Q n u v) (GoesOn adS z m u v) := by
  have hi0 := hi
  obtain ⟨p, hp⟩ : ∃ p, p = xs (nI m + (1 : Int32)).toNatClampNeg := ⟨_, rfl⟩
  obtain ⟨q, hq⟩ : ∃ q, q = xs (nI m + (2 : Int32)).toNatClampNeg := ⟨_, rfl⟩
  obtain ⟨hfresh, hIS, hbegun, htold, htape, hfault, hrowby, hdone, hbest, hmore, hhooks, haims, hout, hstrs, hmost, hfire⟩ := hi
  have hS0 := hIS.1.1
  have hS11 := hIS.1.2.1
  have hKz := hS0.1
  have hL := alen_is hIS.1.2.2
  have hex : ∃ a, K a ≠ none := ⟨z, by rw [hKz]; exact fun h => nomatch h⟩
  have hu1 : u + 1 ≤ 1200128 ∧ v + 6 ≤ 5501098 := by omega
  unfold w_law_j640
  repeat' (with_reducible first | refine ok_lt ?_ | (refine ok_gdp ?_ ?_; first | exact hu | exact hS0 | exact hS11 | exact ha.r1 | exact ha.r2 | exact ha.r3 | exact ha.r4 | exact ha.r5 | assumption) | fail)
  rw [← hp, ← hq]
  obtain ⟨r, er, I1, X1, A1, hc, t, et, t1, t2, ht⟩ := cost1_eq hi0 p q
  have hw0 : ∃ x, w0_cost z adS z p q (z + 171) K I J X A B Q n = some x ∧ ((t.2.1 = 1 ∧ x = (1, a_up K n (some (.inl 19)), I1, J, X1, A1, B, Q, n + 1) ∧ I1 1 z = I 1 z ∧ t.2.2.1 = I 1102 (z + 126)) ∨ (t.2.1 = 0 ∧ I1 1 z = 0 ∧ t.2.2.1 = 0 ∧ x = (0, K, I1, J, X1, A1, a_up B (z + 171) (vp_updL (B (z + 171)) (0 : Int32).toNatClampNeg t.1.toInt64), Q, n))) := by
    have h19 : (a_up K n (some (.inl 19))) n = some (.inl 19) := by unfold a_up; exact if_pos rfl
    unfold w0_cost
    rw [gdp_t hex, gdp_t hKz, gdp_t (by decide), er, bind_is]
    rcases ht with ⟨h1, h2, h3, rfl⟩ | ⟨h1, h2, h3, rfl⟩
    · dsimp only [trs]
      rw [gdp_t h19, gdp_t (by decide)]
      exact ⟨_, rfl, Or.inl ⟨h1, rfl, h2, h3⟩⟩
    · dsimp only [trs]
      simp only [lt_is]
      rw [hL, bind_is, gdp_t (by decide), gdp_t (by decide)]
      exact ⟨_, rfl, Or.inr ⟨h1, h2, h3, rfl⟩⟩
  obtain ⟨x, ex, hx⟩ := hw0
  refine ok_e ex ?_
  have eI : ∀ f, I1 f (z + 126) = I f (z + 126) := fun f => hc.i f _ (Or.inr (Or.inr (Nat.le_refl _)))
  have eA : ∀ k, (71 ≤ k ∧ 122 < k) → A1 (z + k) = A (z + k) := fun k hk => hc.a _ (by unfold Sc; omega)
  have et' : f14_cost p q (I1 1100 (z + 126)) (I1 1102 (z + 126)) (I1 1122 (z + 126)) (I1 1133 (z + 126)) (I1 1134 (z + 126)) (I1 1135 (z + 126)) (I1 1136 (z + 126)) (I1 1137 (z + 126)) (I1 1138 (z + 126)) (I1 1139 (z + 126)) (I1 1140 (z + 126)) (I1 1141 (z + 126)) (I1 1142 (z + 126)) (A1 (z + 126 + 1)) (A1 (z + 126 + 2)) (A1 (z + 126 + 10)) (A1 (z + 126 + 11)) (A1 (z + 126 + 12)) (A1 (z + 126 + 13)) (A1 (z + 126 + 14)) (A1 (z + 126 + 15)) (A1 (z + 126 + 16)) (A1 (z + 126 + 17)) (A1 (z + 126 + 18)) = some t := by
    simp only [eI, Nat.add_assoc]
    rw [eA 127 (by decide), eA 128 (by decide), eA 136 (by decide), eA 137 (by decide), eA 138 (by decide), eA 139 (by decide), eA 140 (by decide), eA 141 (by decide), eA 142 (by decide), eA 143 (by decide), eA 144 (by decide)]
    exact et
  have hA1 : A1 (z + 126 + 1) = A (z + 127) := eA 127 (by decide)
  have hIS1 := hc.IS hIS
  have hE := ext_new (v := .inl 19) hfresh
  have key : ∀ (B1 : gJ), B1 (z + 132) = B (z + 132) → B1 (z + 134) = B (z + 134) → pTape (I1 1 z) t.2.2.1 (A (z + 1)) (A (z + 127)) → Inv adS z K (ov I1 [(1100, z + 126, t.2.1), (1102, z + 126, t.2.2.1), (1122, z + 126, t.2.2.2.1), (1133, z + 126, t.2.2.2.2.1), (1134, z + 126, t.2.2.2.2.2.1), (1135, z + 126, t.2.2.2.2.2.2.1), (1136, z + 126, t.2.2.2.2.2.2.2.1), (1137, z + 126, t.2.2.2.2.2.2.2.2.1), (1138, z + 126, t.2.2.2.2.2.2.2.2.2.1), (1139, z + 126, t.2.2.2.2.2.2.2.2.2.2.1), (1140, z + 126, t.2.2.2.2.2.2.2.2.2.2.2.1), (1141, z + 126, t.2.2.2.2.2.2.2.2.2.2.2.2.1), (1142, z + 126, t.2.2.2.2.2.2.2.2.2.2.2.2.2.1)]) J X1 (ova A1 [(z + 126 + 1, A1 (z + 126 + 1)), (z + 126 + 2, t.2.2.2.2.2.2.2.2.2.2.2.2.2.2.1), (z + 126 + 10, t.2.2.2.2.2.2.2.2.2.2.2.2.2.2.2.1), (z + 126 + 11, t.2.2.2.2.2.2.2.2.2.2.2.2.2.2.2.2.1), (z + 126 + 12, t.2.2.2.2.2.2.2.2.2.2.2.2.2.2.2.2.2.1), (z + 126 + 13, t.2.2.2.2.2.2.2.2.2.2.2.2.2.2.2.2.2.2.1), (z + 126 + 14, t.2.2.2.2.2.2.2.2.2.2.2.2.2.2.2.2.2.2.2.1), (z + 126 + 15, t.2.2.2.2.2.2.2.2.2.2.2.2.2.2.2.2.2.2.2.2.1), (z + 126 + 16, t.2.2.2.2.2.2.2.2.2.2.2.2.2.2.2.2.2.2.2.2.2.1), (z + 126 + 17, t.2.2.2.2.2.2.2.2.2.2.2.2.2.2.2.2.2.2.2.2.2.2.1), (z + 126 + 18, t.2.2.2.2.2.2.2.2.2.2.2.2.2.2.2.2.2.2.2.2.2.2.2)]) B1 Q n := by
    intro B1 b1 b2 htp
    refine hi0.scr hc (by simp only [List.forall_mem_cons]; (repeat' apply And.intro); all_goals first | exact (by unfold Lo; omega) | exact Or.inr rfl | exact Or.inl (by unfold Lo; omega) | exact (by decide) | exact fun _ h => absurd h (List.not_mem_nil)) (by rfl) ?_ b1 b2 (by simpa [ov, i_up] using htp) (Or.inr (by simpa [ov, i_up] using t1)) ?_
    · exact (by simp only [List.forall_mem_cons]; (repeat' apply And.intro); all_goals first | exact fun _ h => absurd h (List.not_mem_nil) | exact (by unfold Lo; omega) | exact Or.inl (by unfold Sc; omega) | exact Or.inl (by unfold ScM; omega) | exact Or.inr rfl | exact Or.inr trivial | exact Or.inl trivial | exact Or.inr (Or.inl trivial) | exact Or.inr (Or.inr ⟨trivial, by omega⟩) | omega)
    · simp [ov, i_up, ova, a_up, t1, t2, layF_1]
  rcases hx with ⟨h1, rfl, h2, h3⟩ | ⟨h1, h2, h3, rfl⟩
  · have hK11 := (hIS1.1.2.1).ext hE
    refine ok_lt (ok_gdp ha.r1 (ok_lt (ok_lt (ok_gdp ha.r2 (ok_lt (ok_gdp hu1 (ok_gdp hK11 ?_)))))))
    rw [← hp, ← hq]
    refine ok_e (x := t) et' (ok_lt (ok_lt ?_))
    refine ok_e (x := (1 : Int32)) (by simp [f14_thrown, ov, i_up, h1]) ?_
    rw [if_pos rfl, if_neg (show ¬ (1 : Int32) = 0 by decide)]
    unfold w_law_j705
    refine goes ?_ (by omega) (by omega)
    have hiK := key B rfl rfl (by rw [h2, h3]; exact htape)
    refine hiK.grow (n := n) (fun a ha => ⟨?_, fun _ => rfl, fun _ => rfl, fun _ => rfl, rfl, rfl, rfl⟩) (hfresh.new (v := .inl 19)) (fun a ha he => ?_)
    · show a_up K n (some (.inl 19)) a = K a
      unfold a_up
      exact if_neg (by omega)
    · have := ny_new (v := .inl 19) (by decide) a he
      rw [hfresh.2.1 a ha] at this
      exact nomatch this
  · have hK11 := hIS1.1.2.1
    refine ok_lt (ok_gdp ha.r1 (ok_lt (ok_lt (ok_gdp ha.r2 (ok_lt (ok_gdp hu1 (ok_gdp hK11 ?_)))))))
    rw [← hp, ← hq]
    refine ok_e (x := t) et' (ok_lt (ok_lt ?_))
    refine ok_e (x := (0 : Int32)) (by simp [f14_thrown, ov, i_up, h1]) ?_
    rw [if_pos rfl, if_pos rfl]
    refine ok_e hL (ok_gdp (by decide) (ok_lt (ok_lt (ok_lt ?_))))
    have eB : lg_cmp (a_up B (z + 171) (vp_updL (B (z + 171)) (0 : Int32).toNatClampNeg t.1.toInt64) (z + 171) (0 : Int32).toNatClampNeg) t.1.toInt64 = 0 := by
      unfold a_up
      rw [if_pos rfl, updL_0]
      exact cmp_self _
    rw [if_pos eB]
    unfold w_law_j705
    refine goes ?_ (by omega) (by omega)
    refine key _ (by unfold a_up; exact if_neg (by omega)) (by unfold a_up; exact if_neg (by omega)) ?_
    rw [h2, h3]
    exact htape.zero rfl rfl
