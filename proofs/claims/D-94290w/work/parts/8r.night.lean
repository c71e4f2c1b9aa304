/-! the plain law: night (printed by gnight.py) -/
set_option maxRecDepth 100000
theorem night1_eq {adS : Nat → Nat} {z n : Nat} {K : gK} {I : gI} {J : gJ} {X : gX} {A : gI} {B : gJ} {Q : gX} (hi : Inv adS z K I J X A B Q n) (p q : Int32) :
    Ok (w1_night z adS z p q K I J X A B Q n) (fun x => ∃ (I1 : gI) (X1 : gX) (A1 : gI) (v : Int32), x = (v, K, I1, J, X1, A1, B, Q, n) ∧ Chg z I X A I1 X1 A1 ∧ (I1 1 z = I 1 z) ∧ Ok (f14_night p q (I 1100 (z + 126)) (I 1122 (z + 126)) (I 1133 (z + 126)) (I 1134 (z + 126)) (I 1135 (z + 126)) (I 1136 (z + 126)) (I 1137 (z + 126)) (I 1138 (z + 126)) (I 1139 (z + 126)) (I 1140 (z + 126)) (I 1141 (z + 126)) (I 1142 (z + 126)) (I 1170 (z + 126)) (A (z + 128)) (A (z + 136)) (A (z + 137)) (A (z + 138)) (A (z + 139)) (A (z + 140)) (A (z + 141)) (A (z + 142)) (A (z + 143)) (A (z + 144)) (A (z + 158)) (A (z + 159)) (A (z + 160)) (A (z + 161)) (A (z + 169))) (fun t => t.1 = v ∧ t.2.2.1 = 1 ∧ t.2.2.2.2.2.2.2.2.2.2.2.2.2.2.1 = layF (I 1122 (z + 126)) (A (z + 128)))) := by
  have hi0 := hi
  obtain ⟨hfresh, hIS, hbegun, htold, htape, hfault, hrowby, hdone, hbest, hmore, hhooks, haims, hout, hstrs, hmost, hfire⟩ := hi
  have hS0 := hIS.1.1
  have hS11 := hIS.1.2.1
  have hKz := hS0.1
  unfold w1_night f14_night
  rw [lay_ok hbegun]
  rcases isIn_cc p (a := 0) (b := 59) (A := 0) (B := 59) rfl rfl (by decide) (by decide) with ⟨a1, a1', -⟩ | ⟨a1, a1', j, -, hj, rfl⟩
  · rw [a1, bind_is, if_pos rfl, bind_is, a1', bind_is, if_pos rfl]
    exact ok_i ⟨I, X, A, -1, rfl, Chg.refl, rfl, ok_i ⟨rfl, rfl, rfl⟩⟩
  rw [a1, bind_is, if_neg (show ¬ (1 : Int32) = 0 by decide), bind_is, a1', bind_is, if_neg (show ¬ (1 : Int32) = 0 by decide)]
  rcases isIn_cc q (a := 0) (b := 3) (A := 0) (B := 3) rfl rfl (by decide) (by decide) with ⟨a2, a2', -⟩ | ⟨a2, a2', k, -, hk, rfl⟩
  · rw [a2, bind_is, if_pos rfl, a2', bind_is, if_pos rfl]
    exact ok_i ⟨I, X, A, -1, rfl, Chg.refl, rfl, ok_i ⟨rfl, rfl, rfl⟩⟩
  rw [a2, bind_is, if_neg (show ¬ (1 : Int32) = 0 by decide), a2', bind_is, if_neg (show ¬ (1 : Int32) = 0 by decide), gdp_t hKz]
  obtain ⟨x, ex, y, ey, I1, X1, A1, rfl, hc, h1, y1, y13, hr⟩ := nights_eq hi0 (I 1133 (z + 126)) (I 1134 (z + 126)) (I 1135 (z + 126)) (I 1136 (z + 126)) (I 1137 (z + 126)) (I 1138 (z + 126)) (I 1139 (z + 126)) (I 1140 (z + 126)) (I 1141 (z + 126)) (I 1142 (z + 126)) (I 1170 (z + 126)) (A (z + 136)) (A (z + 137)) (A (z + 138)) (A (z + 139)) (A (z + 140)) (A (z + 141)) (A (z + 142)) (A (z + 143)) (A (z + 144)) (A (z + 158)) (A (z + 159)) (A (z + 160)) (A (z + 161)) (A (z + 169))
  refine ok_e ex ?_
  have hS0' := (hc.IS hIS).1.1
  obtain ⟨x46, l46⟩ := hS0'.len 19 rfl
  obtain ⟨x47, l47⟩ := hS0'.len 20 rfl
  obtain ⟨x48, l48⟩ := hS0'.len 21 rfl
  obtain ⟨x49, l49⟩ := hS0'.len 22 rfl
  have h60 : inb (nI j) 60 := inb_nI (by omega) (by decide)
  have hcj : (nI j).toNatClampNeg = j := nI_clamp (by omega)
  obtain ⟨r0, r1, r2, r3⟩ := hr j (by omega)
  have hmod : Ok ((f14_spend 1 (I 1133 (z + 126)) (I 1134 (z + 126)) (I 1135 (z + 126)) (I 1136 (z + 126)) (I 1137 (z + 126)) (I 1138 (z + 126)) (I 1139 (z + 126)) (I 1140 (z + 126)) (I 1141 (z + 126)) (I 1142 (z + 126)) (I 1170 (z + 126)) (layF (I 1122 (z + 126)) (A (z + 128))) (A (z + 136)) (A (z + 137)) (A (z + 138)) (A (z + 139)) (A (z + 140)) (A (z + 141)) (A (z + 142)) (A (z + 143)) (A (z + 144)) (A (z + 158)) (A (z + 159)) (A (z + 160)) (A (z + 161)) (A (z + 169))).bind fun rr6 => lt ((4 : Int32) * nI j) fun v7 => lt (v7 + nI k) fun v8 => gd (inb v8 240) <| lt (rr6.2.2.2.2.2.2.2.2.2.2.2.2.2.2.2.2.2.2.2.2.2.2.2.2.2.2 v8.toNatClampNeg) fun v10 => some (v10, (0 : Int32), rr6.1, rr6.2.1, rr6.2.2.1, rr6.2.2.2.1, rr6.2.2.2.2.1, rr6.2.2.2.2.2.1, rr6.2.2.2.2.2.2.1, rr6.2.2.2.2.2.2.2.1, rr6.2.2.2.2.2.2.2.2.1, rr6.2.2.2.2.2.2.2.2.2.1, rr6.2.2.2.2.2.2.2.2.2.2.1, rr6.2.2.2.2.2.2.2.2.2.2.2.1, rr6.2.2.2.2.2.2.2.2.2.2.2.2.1, rr6.2.2.2.2.2.2.2.2.2.2.2.2.2.1, rr6.2.2.2.2.2.2.2.2.2.2.2.2.2.2.1, rr6.2.2.2.2.2.2.2.2.2.2.2.2.2.2.2.1, rr6.2.2.2.2.2.2.2.2.2.2.2.2.2.2.2.2.1, rr6.2.2.2.2.2.2.2.2.2.2.2.2.2.2.2.2.2.1, rr6.2.2.2.2.2.2.2.2.2.2.2.2.2.2.2.2.2.2.1, rr6.2.2.2.2.2.2.2.2.2.2.2.2.2.2.2.2.2.2.2.1, rr6.2.2.2.2.2.2.2.2.2.2.2.2.2.2.2.2.2.2.2.2.1, rr6.2.2.2.2.2.2.2.2.2.2.2.2.2.2.2.2.2.2.2.2.2.1, rr6.2.2.2.2.2.2.2.2.2.2.2.2.2.2.2.2.2.2.2.2.2.2.1, rr6.2.2.2.2.2.2.2.2.2.2.2.2.2.2.2.2.2.2.2.2.2.2.2.1, rr6.2.2.2.2.2.2.2.2.2.2.2.2.2.2.2.2.2.2.2.2.2.2.2.2.1, rr6.2.2.2.2.2.2.2.2.2.2.2.2.2.2.2.2.2.2.2.2.2.2.2.2.2.1, rr6.2.2.2.2.2.2.2.2.2.2.2.2.2.2.2.2.2.2.2.2.2.2.2.2.2.2)) (fun t => t.1 = y.2.2.2.2.2.2.2.2.2.2.2.2.2.2.2.2.2.2.2.2.2.2.2.2.2.2 (4 * j + k) ∧ t.2.2.1 = 1 ∧ t.2.2.2.2.2.2.2.2.2.2.2.2.2.2.1 = layF (I 1122 (z + 126)) (A (z + 128))) := by
    refine ok_e ey ?_
    have hck : (nI (4 * j + k)).toNatClampNeg = 4 * j + k := nI_clamp (by omega)
    rw [lt_is, lt_is, show (4 : Int32) = nI 4 from rfl, pk_mul, nI_add, gd_t (inb_nI (show 4 * j + k < 240 by omega) (by decide)), lt_is, hck]
    exact ok_i ⟨rfl, y1, y13⟩
  rcases (show k = 0 ∨ k = 1 ∨ k = 2 ∨ k = 3 by omega) with rfl | rfl | rfl | rfl
  · rw [if_pos (show nI 0 = 0 from rfl)]
    refine ok_gdp hKz (ok_lt (ok_e x46 (ok_e l46 (ok_gdp h60 (ok_lt (ok_i ⟨I1, X1, A1, y.2.2.2.2.2.2.2.2.2.2.2.2.2.2.2.2.2.2.2.2.2.2.2.2.2.2 (4 * j + 0), ?_, hc, h1, hmod⟩))))))
    dsimp only
    rw [hcj, r0]
    rfl
  · rw [if_neg (show ¬ nI 1 = 0 by decide), if_pos (show nI 1 = 1 from rfl)]
    refine ok_gdp hKz (ok_lt (ok_e x47 (ok_e l47 (ok_gdp h60 (ok_lt (ok_i ⟨I1, X1, A1, y.2.2.2.2.2.2.2.2.2.2.2.2.2.2.2.2.2.2.2.2.2.2.2.2.2.2 (4 * j + 1), ?_, hc, h1, hmod⟩))))))
    dsimp only
    rw [hcj, r1]
  · rw [if_neg (show ¬ nI 2 = 0 by decide), if_neg (show ¬ nI 2 = 1 by decide), if_pos (show nI 2 = 2 from rfl)]
    refine ok_gdp hKz (ok_lt (ok_e x48 (ok_e l48 (ok_gdp h60 (ok_lt (ok_i ⟨I1, X1, A1, y.2.2.2.2.2.2.2.2.2.2.2.2.2.2.2.2.2.2.2.2.2.2.2.2.2.2 (4 * j + 2), ?_, hc, h1, hmod⟩))))))
    dsimp only
    rw [hcj, r2]
  · rw [if_neg (show ¬ nI 3 = 0 by decide), if_neg (show ¬ nI 3 = 1 by decide), if_neg (show ¬ nI 3 = 2 by decide)]
    refine ok_gdp hKz (ok_lt (ok_e x49 (ok_e l49 (ok_gdp h60 (ok_lt (ok_i ⟨I1, X1, A1, y.2.2.2.2.2.2.2.2.2.2.2.2.2.2.2.2.2.2.2.2.2.2.2.2.2.2 (4 * j + 3), ?_, hc, h1, hmod⟩))))))
    dsimp only
    rw [hcj, r3]
theorem case28 {adS : Nat → Nat} {z L m n u v : Nat} {xs : Nat → Int32} {K : gK} {I : gI} {J : gJ} {X : gX} {A : gI} {B : gJ} {Q : gX} (hi : Inv adS z K I J X A B Q n) (ha : At L m) (hu : u ≤ 1200128 ∧ v ≤ 5501098) : Ok (w_law_j1081 z adS z L xs (z + 126) (nI m) K I J X A B Q n u v) (GoesOn adS z m u v) := by
  have hi0 := hi
  obtain ⟨p, hp⟩ : ∃ p, p = xs (nI m + (1 : Int32)).toNatClampNeg := ⟨_, rfl⟩
  obtain ⟨q, hq⟩ : ∃ p, p = xs (nI m + (2 : Int32)).toNatClampNeg := ⟨_, rfl⟩
  obtain ⟨hfresh, hIS, hbegun, htold, htape, hfault, hrowby, hdone, hbest, hmore, hhooks, haims, hout, hstrs, hmost, hfire⟩ := hi
  have hS0 := hIS.1.1
  have hS11 := hIS.1.2.1
  have hKz := hS0.1
  unfold w_law_j1081
  refine ok_lt (ok_gdp ha.r1 (ok_lt (ok_lt (ok_gdp ha.r2 (ok_lt (ok_gdp hKz (ok_gdp hu ?_)))))))
  rw [← hp, ← hq]
  obtain ⟨x, ex, I1, X1, A1, vv, rfl, hc, hone, t, et, t1, t2, t3⟩ := night1_eq hi0 p q
  refine ok_e ex ?_
  have hS11' := (hc.IS hIS).1.2.1
  have eI : ∀ f, I1 f (z + 126) = I f (z + 126) := fun f => hc.i f _ (Or.inr (Or.inr (Nat.le_refl _)))
  have eA : ∀ k, (71 ≤ k ∧ 122 < k) → A1 (z + k) = A (z + k) := fun k hk => hc.a _ (by unfold Sc; omega)
  have et' : f14_night p q (I1 1100 (z + 126)) (I1 1122 (z + 126)) (I1 1133 (z + 126)) (I1 1134 (z + 126)) (I1 1135 (z + 126)) (I1 1136 (z + 126)) (I1 1137 (z + 126)) (I1 1138 (z + 126)) (I1 1139 (z + 126)) (I1 1140 (z + 126)) (I1 1141 (z + 126)) (I1 1142 (z + 126)) (I1 1170 (z + 126)) (A1 (z + 126 + 2)) (A1 (z + 126 + 10)) (A1 (z + 126 + 11)) (A1 (z + 126 + 12)) (A1 (z + 126 + 13)) (A1 (z + 126 + 14)) (A1 (z + 126 + 15)) (A1 (z + 126 + 16)) (A1 (z + 126 + 17)) (A1 (z + 126 + 18)) (A1 (z + 126 + 32)) (A1 (z + 126 + 33)) (A1 (z + 126 + 34)) (A1 (z + 126 + 35)) (A1 (z + 126 + 43)) = some t := by
    simp only [eI, Nat.add_assoc]
    rw [eA 128 (by decide), eA 136 (by decide), eA 137 (by decide), eA 138 (by decide), eA 139 (by decide), eA 140 (by decide), eA 141 (by decide), eA 142 (by decide), eA 143 (by decide), eA 144 (by decide), eA 158 (by decide), eA 159 (by decide), eA 160 (by decide), eA 161 (by decide), eA 169 (by decide)]
    exact et
  refine ok_lt (ok_gdp ha.r1 (ok_lt (ok_lt (ok_gdp ha.r2 (ok_lt (ok_gdp hS11' ?_))))))
  rw [← hp, ← hq]
  refine ok_e et' (ok_lt (ok_lt (ok_t t1.symm (goes0 ?_))))
  dsimp only
  have e1 : I1 1 z = I 1 z ∧ I1 1102 (z + 126) = I 1102 (z + 126) := ⟨hone, eI _⟩
  refine hi0.scr hc (l := [(1100, z + 126, t.2.1), (1122, z + 126, t.2.2.1), (1133, z + 126, t.2.2.2.1), (1134, z + 126, t.2.2.2.2.1), (1135, z + 126, t.2.2.2.2.2.1), (1136, z + 126, t.2.2.2.2.2.2.1), (1137, z + 126, t.2.2.2.2.2.2.2.1), (1138, z + 126, t.2.2.2.2.2.2.2.2.1), (1139, z + 126, t.2.2.2.2.2.2.2.2.2.1), (1140, z + 126, t.2.2.2.2.2.2.2.2.2.2.1), (1141, z + 126, t.2.2.2.2.2.2.2.2.2.2.2.1), (1142, z + 126, t.2.2.2.2.2.2.2.2.2.2.2.2.1), (1170, z + 126, t.2.2.2.2.2.2.2.2.2.2.2.2.2.1)]) (la := [(z + 126 + 2, t.2.2.2.2.2.2.2.2.2.2.2.2.2.2.1), (z + 126 + 10, t.2.2.2.2.2.2.2.2.2.2.2.2.2.2.2.1), (z + 126 + 11, t.2.2.2.2.2.2.2.2.2.2.2.2.2.2.2.2.1), (z + 126 + 12, t.2.2.2.2.2.2.2.2.2.2.2.2.2.2.2.2.2.1), (z + 126 + 13, t.2.2.2.2.2.2.2.2.2.2.2.2.2.2.2.2.2.2.1), (z + 126 + 14, t.2.2.2.2.2.2.2.2.2.2.2.2.2.2.2.2.2.2.2.1), (z + 126 + 15, t.2.2.2.2.2.2.2.2.2.2.2.2.2.2.2.2.2.2.2.2.1), (z + 126 + 16, t.2.2.2.2.2.2.2.2.2.2.2.2.2.2.2.2.2.2.2.2.2.1), (z + 126 + 17, t.2.2.2.2.2.2.2.2.2.2.2.2.2.2.2.2.2.2.2.2.2.2.1), (z + 126 + 18, t.2.2.2.2.2.2.2.2.2.2.2.2.2.2.2.2.2.2.2.2.2.2.2.1), (z + 126 + 32, t.2.2.2.2.2.2.2.2.2.2.2.2.2.2.2.2.2.2.2.2.2.2.2.2.1), (z + 126 + 33, t.2.2.2.2.2.2.2.2.2.2.2.2.2.2.2.2.2.2.2.2.2.2.2.2.2.1), (z + 126 + 34, t.2.2.2.2.2.2.2.2.2.2.2.2.2.2.2.2.2.2.2.2.2.2.2.2.2.2.1), (z + 126 + 35, t.2.2.2.2.2.2.2.2.2.2.2.2.2.2.2.2.2.2.2.2.2.2.2.2.2.2.2.1), (z + 126 + 43, t.2.2.2.2.2.2.2.2.2.2.2.2.2.2.2.2.2.2.2.2.2.2.2.2.2.2.2.2)]) (by simp only [List.forall_mem_cons]; (repeat' apply And.intro); all_goals first | exact (by unfold Lo; omega) | exact Or.inr rfl | exact Or.inl (by unfold Lo; omega) | exact (by decide) | exact fun _ h => absurd h (List.not_mem_nil)) (by rfl) (by simp only [List.forall_mem_cons]; (repeat' apply And.intro); all_goals first | exact fun _ h => absurd h (List.not_mem_nil) | exact (by unfold Lo; omega) | exact Or.inl (by unfold Sc; omega) | exact Or.inl (by unfold ScM; omega) | exact Or.inr rfl | exact Or.inr trivial | exact Or.inl trivial | exact Or.inr (Or.inl trivial) | exact Or.inr (Or.inr ⟨trivial, by omega⟩) | omega) rfl rfl ?_ (Or.inr (by simpa [ov, i_up] using t2)) (by simp [ov, i_up, ova, a_up, t2, t3, layF_1])
  simpa [ov, i_up, e1.1, e1.2] using htape
