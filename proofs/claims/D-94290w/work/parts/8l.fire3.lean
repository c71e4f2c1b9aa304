/-! the plain law: the case fire -/
set_option maxRecDepth 100000
theorem cells14 {C R : Nat} {w : Nat → Int32} {bg : Int32} (w9 : w 9 = nI C) (w10 : w 10 = nI R) (hC : C ≤ 8) (hR : R ≤ 8) (rr : Int32 × Int32 × (Nat → Int32) × (Nat → Int32) × (Nat → Int32) × (Nat → Int32) × (Nat → Int32) × (Nat → Int32)) (fc : Nat → Int32) : Ok (whl (fun (s15 : Int32 × (Nat → Int32)) => f14_fire_s15 (bg, w) rr s15.1 s15.2) FU ((0 : Int32), fc)) (fun x => ∀ k, k < C * R → x (3 * k) = rr.2.2.1 k ∧ x (3 * k + 1) = rr.2.2.2.1 k ∧ x (3 * k + 2) = rr.2.2.2.2.1 k) := by
  have hCR : C * R ≤ 8 * 8 := Nat.mul_le_mul hC hR
  refine for_ok (fun i (x : Nat → Int32) => (nI i, x)) (fun i x => ∀ k, k < i → x (3 * k) = rr.2.2.1 k ∧ x (3 * k + 1) = rr.2.2.2.1 k ∧ x (3 * k + 2) = rr.2.2.2.2.1 k) (C * R) (by omega) (fun _ h => absurd h (Nat.not_lt_zero _)) ?_ ?_
  · intro i x hi hx
    dsimp only
    unfold f14_fire_s15
    dsimp only
    have h64 : inb (nI i) 64 := inb_nI (by omega) (by decide)
    have hc : (nI i).toNatClampNeg = i := nI_clamp (by omega)
    rw [cells_is w9 w10, bind_is, if_neg (nI_ge hi (by omega))]
    simp only [show (3 : Int32) = nI 3 from rfl, pk_mul, lt_is, nI_1, show (2 : Int32) = nI 2 from rfl, nI_add, gd_t h64, hc, gd_t (inb_nI (show 3 * i < 192 by omega) (by decide)), gd_t (inb_nI (show 3 * i + 1 < 192 by omega) (by decide)), gd_t (inb_nI (show 3 * i + 2 < 192 by omega) (by decide)), nI_clamp (show 3 * i < 2 ^ 31 by omega), nI_clamp (show 3 * i + 1 < 2 ^ 31 by omega), nI_clamp (show 3 * i + 2 < 2 ^ 31 by omega)]
    refine ok_i ⟨_, rfl, fun k hk => ?_⟩
    by_cases q : k = i
    · subst q
      refine ⟨?_, ?_, pk_us⟩
      · rw [pk_un (by omega), pk_un (by omega), pk_us]
      · rw [pk_un (by omega), pk_us]
    · rw [pk_un (by omega), pk_un (by omega), pk_un (by omega), pk_un (by omega), pk_un (by omega), pk_un (by omega), pk_un (by omega), pk_un (by omega), pk_un (by omega)]
      exact hx k (by omega)
  · intro x hx
    dsimp only
    unfold f14_fire_s15
    dsimp only
    rw [cells_is w9 w10, bind_is, if_pos (nI_le (Nat.le_refl _) (by omega))]
    exact ok_i ⟨_, rfl, hx⟩
theorem case20 {adS : Nat → Nat} {z L m n u v : Nat} {xs : Nat → Int32} {K : gK} {I : gI} {J : gJ} {X : gX} {A : gI} {B : gJ} {Q : gX} (hi : Inv adS z K I J X A B Q n) (ha : At L m) (hb : u + 105 ≤ 1200128 ∧ v + 5502 ≤ 5501098) : Ok (w_law_j821 z adS z L xs (z + 126) (nI m) K I J X A B Q n u v) (GoesOn adS z m u v) := by
  have hi0 := hi
  obtain ⟨p1, hp1⟩ : ∃ p, p = xs (nI m + (1 : Int32)).toNatClampNeg := ⟨_, rfl⟩
  obtain ⟨p2, hp2⟩ : ∃ p, p = xs (nI m + (2 : Int32)).toNatClampNeg := ⟨_, rfl⟩
  obtain ⟨p3, hp3⟩ : ∃ p, p = xs (nI m + (3 : Int32)).toNatClampNeg := ⟨_, rfl⟩
  obtain ⟨p4, hp4⟩ : ∃ p, p = xs (nI m + (4 : Int32)).toNatClampNeg := ⟨_, rfl⟩
  obtain ⟨hfresh, hIS, hbegun, htold, htape, hfault, hrowby, hdone, hbest, hmore, hhooks, haims, hout, hstrs, hmost, hfire⟩ := hi
  have hS0 := hIS.1.1
  have hS11 := hIS.1.2.1
  have hKz := hS0.1
  have hI := hIS
  obtain ⟨⟨-, -, hL171⟩, ⟨hK7, hX9⟩, ⟨hS16, hX13⟩, ⟨hS60, hX15⟩, ⟨hS85, hX36⟩, ⟨⟨hS92, hS97, hS102, hS107⟩, hQ0, hQ1, hQ2, hQ3⟩, hG, ⟨hK2, hX4⟩, ⟨hK14, hX10, hX507, hX509⟩, ⟨hK15, hX11, hX607, hX609⟩, ⟨hS123, hX50, hX1007, hX1010⟩, ⟨hS80, hX35⟩, ⟨hS114, hX45⟩, ⟨hS38, hX14⟩, ⟨hS65, hX16⟩, hG2, hyards, hseen1, hseen2⟩ := hI
  have hex : ∃ a, K a ≠ none := ⟨z, by rw [hKz]; exact fun h => nomatch h⟩
  obtain ⟨S, hS, hsn, ⟨y, M, C, R, P, ⟨hy, hz, hsh, hm, hY⟩, -⟩, -⟩ := htold.ex
  have hYv := hY
  obtain ⟨⟨-, hC, hR, -⟩, ⟨-, -, g304, w9, g305, w10, -⟩, -, ⟨g314, -⟩, -⟩ := hYv
  have e304 : I 304 y = nI C := g304
  have e305 : I 305 y = nI R := g305
  have e314 : I 314 y = layF (I 1122 (z + 126)) (A (z + 128)) 11 := g314
  have hu105 : u + 105 ≤ 1200128 ∧ v + 5502 ≤ 5501098 := hb
  -- refusals
  have hno : w1_fire z adS z p1 p2 p3 p4 K I J X A B Q n = some (-1, K, I, J, X, A, B, Q, n) → f14_fire p1 p2 p3 p4 (I 1100 (z + 126)) (I 1122 (z + 126)) (I 1170 (z + 126)) (I 1171 (z + 126)) (I 1173 (z + 126)) (I 1174 (z + 126)) (I 1175 (z + 126)) (I 1176 (z + 126)) (A (z + 128)) (A (z + 158)) (A (z + 159)) (A (z + 160)) (A (z + 161)) (A (z + 162)) (A (z + 163)) (A (z + 164)) = some (-1, 0, 1, I 1170 (z + 126), I 1171 (z + 126), I 1173 (z + 126), I 1174 (z + 126), I 1175 (z + 126), I 1176 (z + 126), layF (I 1122 (z + 126)) (A (z + 128)), A (z + 158), A (z + 159), A (z + 160), A (z + 161), A (z + 162), A (z + 163), A (z + 164)) → Ok (w_law_j821 z adS z L xs (z + 126) (nI m) K I J X A B Q n u v) (GoesOn adS z m u v) := by
    intro h1 h14
    unfold w_law_j821
    repeat' (with_reducible first | refine ok_lt ?_ | (refine ok_gdp ?_ ?_; first | exact hu | exact hS0 | exact hS11 | exact ha.r1 | exact ha.r2 | exact ha.r3 | exact ha.r4 | exact ha.r5 | assumption) | fail)
    rw [← hp1, ← hp2, ← hp3, ← hp4]
    refine ok_e h1 ?_
    repeat' (with_reducible first | refine ok_lt ?_ | (refine ok_gdp ?_ ?_; first | exact hu | exact hS0 | exact hS11 | exact ha.r1 | exact ha.r2 | exact ha.r3 | exact ha.r4 | exact ha.r5 | assumption) | fail)
    rw [← hp1, ← hp2, ← hp3, ← hp4]
    refine ok_e h14 ?_
    repeat' (with_reducible first | refine ok_lt ?_ | (refine ok_gdp ?_ ?_; first | exact hu | exact hS0 | exact hS11 | exact ha.r1 | exact ha.r2 | exact ha.r3 | exact ha.r4 | exact ha.r5 | assumption) | fail)
    refine ok_t rfl (goes ?_ (by omega) (by omega))
    dsimp only
    have eI : ov I [(1100, z + 126, (0 : Int32)), (1122, z + 126, 1), (1170, z + 126, I 1170 (z + 126)), (1171, z + 126, I 1171 (z + 126)), (1173, z + 126, I 1173 (z + 126)), (1174, z + 126, I 1174 (z + 126)), (1175, z + 126, I 1175 (z + 126)), (1176, z + 126, I 1176 (z + 126))] = ov I [(1100, z + 126, (0 : Int32)), (1122, z + 126, 1)] := by
      simp only [ov]
      rw [i_up_same (f := 1176) rfl, i_up_same (f := 1175) rfl, i_up_same (f := 1174) rfl, i_up_same (f := 1173) rfl, i_up_same (f := 1171) rfl, i_up_same (f := 1170) rfl]
    have eA : ova A [(z + 126 + 2, layF (I 1122 (z + 126)) (A (z + 128))), (z + 126 + 32, A (z + 158)), (z + 126 + 33, A (z + 159)), (z + 126 + 34, A (z + 160)), (z + 126 + 35, A (z + 161)), (z + 126 + 36, A (z + 162)), (z + 126 + 37, A (z + 163)), (z + 126 + 38, A (z + 164))] = ova A [(z + 126 + 2, layF (I 1122 (z + 126)) (A (z + 128)))] := by
      simp only [ova]
      rw [a_up_same (a := z + 126 + 38) (v := A (z + 164)) rfl, a_up_same (a := z + 126 + 37) (v := A (z + 163)) rfl, a_up_same (a := z + 126 + 36) (v := A (z + 162)) rfl, a_up_same (a := z + 126 + 35) (v := A (z + 161)) rfl, a_up_same (a := z + 126 + 34) (v := A (z + 160)) rfl, a_up_same (a := z + 126 + 33) (v := A (z + 159)) rfl, a_up_same (a := z + 126 + 32) (v := A (z + 158)) rfl]
    rw [eI, eA]
    exact ⟨hfresh, hIS, (Or.inr (by simp [ov, i_up, ova, a_up])), (((htold).putI (by simp only [List.forall_mem_cons]; (repeat' apply And.intro); all_goals first | exact (by unfold Lo; omega) | exact Or.inr rfl | exact Or.inl (by unfold Lo; omega) | exact (by decide) | exact fun _ h => absurd h (List.not_mem_nil)) (by simp only [List.forall_mem_cons]; (repeat' apply And.intro); all_goals first | exact (by unfold Lo; omega) | exact Or.inr rfl | exact Or.inl (by unfold Lo; omega) | exact (by decide) | exact fun _ h => absurd h (List.not_mem_nil))).w (by simp [ov, i_up, ova, a_up, layF_1])), (by simpa [ov, ova, i_up, a_up] using htape), (by simpa [ov, ova, i_up, a_up] using hfault), (by simpa [ov, ova, i_up, a_up] using hrowby), (by simpa [ov, ova, i_up, a_up] using hdone), (by simpa [ov, ova, i_up, a_up] using hbest), (by simpa [ov, ova, i_up, a_up] using hmore), (by simpa [ov, ova, i_up, a_up] using hhooks), (by simpa [ov, ova, i_up, a_up] using haims), (by simpa [ov, ova, i_up, a_up] using hout), hstrs, (by simpa [ov, ova, i_up, a_up] using hmost), (by simpa [ov, ova, i_up, a_up] using hfire)⟩
  rcases isIn_cc p1 (a := 0) (b := 60) (A := 0) (B := 60) rfl rfl (by decide) (by decide) with ⟨a1, a1', -⟩ | ⟨a1, a1', p, -, hp60, hpp⟩
  · exact hno (by unfold w1_fire; rw [gdp_t hex, a1, bind_is, if_pos rfl, gdp_t (by decide)]) (by unfold f14_fire; rw [lay_ok hbegun, bind_is, a1', bind_is, if_pos rfl])
  have h10 : ¬ (1 : Int32) = 0 := by decide
  rcases litres_cc p2 with ⟨a2, a2'⟩ | ⟨a2, a2', t, ht, hpt⟩
  · exact hno (by unfold w1_fire; rw [gdp_t hex, a1, bind_is, if_neg h10, a2, bind_is, if_pos rfl, gdp_t (by decide)]) (by unfold f14_fire; rw [lay_ok hbegun, bind_is, a1', bind_is, if_neg h10, a2', bind_is, if_pos rfl])
  rcases isAim_eq w9 w10 hC hR p3 with ⟨a3, a3', hAim⟩ | ⟨a3, a3'⟩
  rotate_left
  · exact hno (by unfold w1_fire; rw [gdp_t hex, a1, bind_is, if_neg h10, a2, bind_is, if_neg h10, gdp_t hKz]; simp only [lt_is]; rw [hX9, bind_is, gdp_t hK7, hy, bind_is, gdp_t hsh, e304, e305, a3, bind_is, if_pos rfl, gdp_t (by decide)]) (by unfold f14_fire; rw [lay_ok hbegun, bind_is, a1', bind_is, if_neg h10, a2', bind_is, if_neg h10, a3', bind_is, if_pos rfl])
  rcases isIn_cc p4 (a := 0) (b := 20) (A := 0) (B := 20) rfl rfl (by decide) (by decide) with ⟨a4, a4', -⟩ | ⟨a4, a4', late, -, hlate, hpl⟩
  · exact hno (by unfold w1_fire; rw [gdp_t hex, a1, bind_is, if_neg h10, a2, bind_is, if_neg h10, gdp_t hKz]; simp only [lt_is]; rw [hX9, bind_is, gdp_t hK7, hy, bind_is, gdp_t hsh, e304, e305, a3, bind_is, if_neg h10, a4, bind_is, if_pos rfl, gdp_t (by decide)]) (by unfold f14_fire; rw [lay_ok hbegun, bind_is, a1', bind_is, if_neg h10, a2', bind_is, if_neg h10, a3', bind_is, if_neg h10, a4', bind_is, if_pos rfl])
  clear hno
  have hny : ∀ d, d < 4 → y + d ≠ z + 80 + 1 ∧ y + d ≠ z + 80 + 2 ∧ y + d ≠ z + 80 + 3 ∧ y + d ≠ z + 80 + 4 ∧ y + d ≠ z + 80 := fun d hd => by
    have := hz d hd
    unfold Fz at this
    omega
  have hnda : nda [(z + 80 + 1), (z + 80 + 2), (z + 80 + 4), (y + 2), (y + 3)] := by
    have h2 := hny 2 (by decide)
    have h3 := hny 3 (by decide)
    simp [nda]
    omega
  obtain ⟨r21, e21, r10, e10, l1, l14, F, BB, hg⟩ := light_eq hY (I 905 (z + 80)) (I 1170 (z + 126)) (A (z + 80 + 1)) (A (z + 80 + 2)) (A (z + 80 + 4)) (A (z + 158)) (A (z + 160)) (A (z + 159))
  obtain ⟨rb, erb, rb', erb', kb, hkb, rfl, rfl⟩ := burning_eq hg w9 w10 hC hR
  -- the loop
  have key : ∀ (I1 : gI) (X1 : gX) (A1 : gI), I1 = i_up (ov I [(905, z + 80, r21.1)]) 38 z 1 → X1 = ov X [(904, z + 80, some y)] → A1 = ova A [(z + 80 + 1, r21.2.1), (z + 80 + 2, r21.2.2.1), (z + 80 + 4, r21.2.2.2), (y + 2, A (y + 2)), (y + 3, A (y + 3))] → ∀ o : Int32, Ok (w1_fire_j79 z z p1 p2 p3 p4 K J B Q n X1 A1 I1 o) (fun x => Ok (f14_fires_j13 p1 p2 p3 p4 r10.1 (layF (I 1122 (z + 126)) (A (z + 128))) r10.2.1 r10.2.2.1 r10.2.2.2 (A (z + 161)) (A (z + 162)) (A (z + 163)) o) (fun yy => ∃ (u' v' : Nat), x.1 = yy.1 ∧ FI adS z t y C R (layF (I 1122 (z + 126)) (A (z + 128)) 11) I A p (min p 21) (x.2.1, x.2.2.1, x.2.2.2.1, x.2.2.2.2.1, x.2.2.2.2.2.1, x.2.2.2.2.2.2.1, x.2.2.2.2.2.2.2.1, x.2.2.2.2.2.2.2.2, u', v') yy)) := by
    rintro I1 X1 A1 hI1 hX1 hA1 o
    have eI1 : ∀ f a, ¬ (f = 905 ∧ a = z + 80) → ¬ (f = 38 ∧ a = z) → I1 f a = I f a := fun f a q1 q2 => by
      rw [hI1]
      have : i_up (ov I [(905, z + 80, r21.1)]) 38 z 1 = ov I [(38, z, 1), (905, z + 80, r21.1)] := rfl
      rw [this]
      refine ov_fr (fun p hp e e2 => ?_)
      simp only [List.mem_cons, List.not_mem_nil, or_false] at hp
      rcases hp with rfl | rfl
      · exact absurd ⟨e2.symm, e.symm⟩ q2
      · exact absurd ⟨e2.symm, e.symm⟩ q1
    have eX1 : ∀ f a, ¬ (f = 904 ∧ a = z + 80) → X1 f a = X f a := fun f a q1 => by
      rw [hX1]
      refine ov_fr (fun p hp e e2 => ?_)
      simp only [List.mem_cons, List.not_mem_nil, or_false] at hp
      subst hp
      exact absurd ⟨e2.symm, e.symm⟩ q1
    have eA1 : ∀ a, a ≠ z + 80 + 1 → a ≠ z + 80 + 2 → a ≠ z + 80 + 4 → A1 a = A a := fun a q1 q2 q3 => by
      rw [hA1]
      refine ova_fr (fun p hp e => ?_)
      simp only [List.mem_cons, List.not_mem_nil, or_false] at hp
      rcases hp with rfl | rfl | rfl | rfl | rfl
      · exact absurd e.symm q1
      · exact absurd e.symm q2
      · exact absurd e.symm q3
      · dsimp only at e ⊢; rw [e]
      · dsimp only at e ⊢; rw [e]
    have h0 : FI adS z t y C R (layF (I 1122 (z + 126)) (A (z + 128)) 11) I A 0 (min 0 21) (K, i_up I1 39 z o, J, X1, A1, B, Q, n, 0, 0) (r10.1, o, r10.2.1, r10.2.2.1, r10.2.2.2, A (z + 161), A (z + 162), A (z + 163)) := by
      have e39 : ∀ f a, ¬ (f = 39 ∧ a = z) → i_up I1 39 z o f a = I1 f a := fun f a q => by
        by_cases r : f = 39
        · have r2 : ¬ a = z := fun e => q ⟨r, e⟩
          simp [i_up, r, r2]
        · simp [i_up, r]
      refine ⟨(hi0.rset).bar (by simp [rsf, ov, i_up]) (fun f a q1 q2 => ?_) (fun f a q => eX1 f a fun h => q ⟨h.1, Or.inl h.2⟩) (fun a q => eA1 a (fun e => q ⟨z + 80, Or.inl rfl, by omega, by omega⟩) (fun e => q ⟨z + 80, Or.inl rfl, by omega, by omega⟩) (fun e => q ⟨z + 80, Or.inl rfl, by omega, by omega⟩)), ⟨Nat.zero_le _, Nat.zero_le _⟩, ⟨?_, ?_, hsh.1, ?_, ?_, ?_⟩, ⟨fun f => ?_, fun k h1 h2 => ?_⟩, ⟨0, F, BB, fun _ _ => 0, by omega, ?_, l14, ?_⟩, ?_, fun j hj => absurd hj (Nat.not_lt_zero _)⟩
      · by_cases r : (f = 38 ∧ a = z) ∨ (f = 1176 ∧ a = z + 126) ∨ (f = 1175 ∧ a = z + 126)
        · rcases r with ⟨rfl, rfl⟩ | ⟨rfl, rfl⟩ | ⟨rfl, rfl⟩ <;> simp [rsf, ov, i_up]
        · rw [rsf_at (by omega) (by omega) (by omega), rsf_at (by omega) (by omega) (by omega)]
          show i_up I1 39 z o f a = I f a
          rw [e39 f a q2]
          exact eI1 f a (fun h => q1 ⟨h.1, Or.inl h.2⟩) (by omega)
      · show i_up I1 39 z o 38 z = 1
        rw [e39 38 z (by omega), hI1]
        simp [i_up]
      · show X1 904 (z + 80) = some y
        rw [hX1]
        simp [ov, i_up]
      · show i_up I1 39 z o 304 y = nI C
        rw [e39 _ _ (by omega), eI1 _ _ (by omega) (by omega)]
        exact e304
      · show i_up I1 39 z o 305 y = nI R
        rw [e39 _ _ (by omega), eI1 _ _ (by omega) (by omega)]
        exact e305
      · show i_up I1 39 z o 314 y = _
        rw [e39 _ _ (by omega), eI1 _ _ (by omega) (by omega)]
        exact e314
      · show i_up I1 39 z o f (z + 126) = _
        rw [e39 _ _ (by omega), eI1 _ _ (by omega) (by omega)]
      · exact eA1 _ (by omega) (by omega) (by omega)
      · show i_up I1 39 z o 905 (z + 80) = nI 0
        rw [e39 _ _ (by omega), hI1, ← l1]
        simp [ov, i_up]
      · have z1 : A1 (z + 81) = r21.2.1 ∧ A1 (z + 82) = r21.2.2.1 ∧ A1 (z + 84) = r21.2.2.2 := by
          rw [hA1]
          simp [ova, a_up]
        dsimp only
        rw [z1.1, z1.2.1, z1.2.2, Nat.mul_zero]
        exact hg
      · show i_up I1 39 z o 39 z = o
        simp [i_up]
    unfold w1_fire_j79 f14_fires_j13
    refine ok_lt ?_
    subst hpp hpt hpl
    have hloop := for2_ok (s := fun (s33 : Int32 × gK × gI × gJ × gX × gI × gJ × gX × Nat × Nat × Nat) => w1_fire_s33 z z (nI p) (nI t) p3 (nI late) s33.1 s33.2.1 s33.2.2.1 s33.2.2.2.1 s33.2.2.2.2.1 s33.2.2.2.2.2.1 s33.2.2.2.2.2.2.1 s33.2.2.2.2.2.2.2.1 s33.2.2.2.2.2.2.2.2.1 s33.2.2.2.2.2.2.2.2.2.1 s33.2.2.2.2.2.2.2.2.2.2) (s2 := fun (s2 : Int32 × Int32 × Int32 × (Nat → Int32) × (Nat → Int32) × (Nat → Int32) × (Nat → Int32) × (Nat → Int32) × (Nat → Int32)) => f14_fires_s2 (nI p) (nI t) p3 (nI late) (layF (I 1122 (z + 126)) (A (z + 128))) s2.1 s2.2.1 s2.2.2.1 s2.2.2.2.1 s2.2.2.2.2.1 s2.2.2.2.2.2.1 s2.2.2.2.2.2.2.1 s2.2.2.2.2.2.2.2.1 s2.2.2.2.2.2.2.2.2)
      (P := fun r q => FI adS z t y C R (layF (I 1122 (z + 126)) (A (z + 128)) 11) I A p (min p 21) r q) (fun i (x : gK × gI × gJ × gX × gI × gJ × gX × Nat × Nat × Nat) => (nI i, x)) (fun i (q : Int32 × Int32 × (Nat → Int32) × (Nat → Int32) × (Nat → Int32) × (Nat → Int32) × (Nat → Int32) × (Nat → Int32)) => (nI i, q)) (fun i x q => FI adS z t y C R (layF (I 1122 (z + 126)) (A (z + 128)) 11) I A i (min i 21) x q) p (by omega) h0 (fun i x q hi hx => ?_) (fun x q hx => ?_)
    · refine ok_b2 hloop ?_
      intro r q hr
      unfold w1_fire_e33_0 f14_fires_e2_0
      have hr0 := hr
      obtain ⟨b1, ⟨b2, b3⟩, -, -, ⟨l, F', B', V', -, b4, b5, -⟩, -⟩ := hr
      have hIS' := b1.2.1
      refine ok_gdp hIS'.1.1.1 (ok_lt (ok_e hIS'.o.2.2.2.2.1.2 (ok_gdp hIS'.o.2.2.2.2.1.1.1 (ok_lt (ok_gdp (by omega) (ok_i (ok_i ⟨r.2.2.2.2.2.2.2.2.1, r.2.2.2.2.2.2.2.2.2, b4.trans b5.symm, hr0⟩)))))))
    · obtain ⟨x', s, h1, h2, h3⟩ := fire_slot (p2 := nI t) (p3 := p3) (p4 := nI late) hx hi hp60
      dsimp only
      rw [h3]
      refine ok_w (fire_min h1 h2 w9 w10 rfl hC hR ht hAim hi hp60 hlate) ?_
      rintro o ⟨q', eq', x'', y'', rfl, rfl, hF⟩
      exact ok_eq eq' ⟨x'', y'', rfl, rfl, hF⟩
    · dsimp only
      unfold w1_fire_s33 f14_fires_s2
      rw [if_pos (nI_le (Nat.le_refl _) (by omega)), if_pos (nI_le (Nat.le_refl _) (by omega))]
      exact ok_i (ok_i ⟨x, q, rfl, rfl, hx⟩)
  obtain ⟨o, ho⟩ : ∃ o : Int32, o = if nI kb = 0 then 0 else -1 := ⟨_, rfl⟩
  obtain ⟨x, ex, yy, eyy, u', v', hx1, hF⟩ := key _ _ _ rfl rfl rfl o
  have ew : w1_fire z adS z p1 p2 p3 p4 K I J X A B Q n = some x := by
    unfold w1_fire
    rw [gdp_t hex, a1, bind_is, if_neg h10, a2, bind_is, if_neg h10, gdp_t hKz]
    simp only [lt_is]
    have h35 : ov X [(904, z + 80, some y)] 35 z = some (z + 80) := by simp [ov, i_up, hX35]
    have h80 : Sh K (ov X [(904, z + 80, some y)]) (z + 80) 9 rows9 := Sh.ov (by rfl) hS80
    rw [hX9, bind_is, gdp_t hK7, hy, bind_is, gdp_t hsh, e304, e305, a3, bind_is, if_neg h10, a4, bind_is, if_neg h10, hX35, bind_is, gdp_t hS80, gdp_t hnda, e21, bind_is, h35, bind_is, gdp_t h80]
    have e84 : ova A [(z + 80 + 1, r21.2.1), (z + 80 + 2, r21.2.2.1), (z + 80 + 4, r21.2.2.2), (y + 2, A (y + 2)), (y + 3, A (y + 3))] (z + 80 + 4) = r21.2.2.2 := by simp [ova, a_up]
    rw [e84, erb, bind_is]
    rw [ho] at ex
    by_cases q : nI kb = 0
    · rw [if_pos q] at ex ⊢
      exact ex
    · rw [if_neg q] at ex ⊢
      exact ex
  have efires : f14_fires p1 p2 p3 p4 r10.1 (I 1171 (z + 126)) (layF (I 1122 (z + 126)) (A (z + 128))) r10.2.1 r10.2.2.1 r10.2.2.2 (A (z + 161)) (A (z + 162)) (A (z + 163)) = some yy := by
    unfold f14_fires
    rw [erb', bind_is]
    rw [ho] at eyy
    by_cases q : nI kb = 0
    · rw [if_pos q] at eyy ⊢
      exact eyy
    · rw [if_neg q] at eyy ⊢
      exact eyy
  obtain ⟨fc, efc, hfc⟩ := cells14 (bg := 1) w9 w10 hC hR yy (A (z + 164))
  obtain ⟨xr, K', I', J', X', A', B', Q', n'⟩ := x
  obtain ⟨b1, -, ⟨c38, c904, cky, c304, c305, c314⟩, ⟨dI, dA⟩, ⟨l, F', B', V', hl, g905, g1, hg'⟩, h39, -⟩ := hF
  dsimp only at hx1 b1 c38 c904 cky c304 c305 c314 dI dA g905 g1 hg' h39
  have dA' : ∀ k, k < 46 → A' (z + 126 + k) = A (z + (126 + k)) := fun k hk => by
    rw [Nat.add_assoc]
    exact dA _ (by omega) (by omega)
  have e14 : f14_fire p1 p2 p3 p4 (I' 1100 (z + 126)) (I' 1122 (z + 126)) (I' 1170 (z + 126)) (I' 1171 (z + 126)) (I' 1173 (z + 126)) (I' 1174 (z + 126)) (I' 1175 (z + 126)) (I' 1176 (z + 126)) (A' (z + 126 + 2)) (A' (z + 126 + 32)) (A' (z + 126 + 33)) (A' (z + 126 + 34)) (A' (z + 126 + 35)) (A' (z + 126 + 36)) (A' (z + 126 + 37)) (A' (z + 126 + 38)) = some (yy.1, 0, 1, yy.1, yy.2.1, nI C, nI R, yy.2.1, 1, layF (I 1122 (z + 126)) (A (z + 128)), yy.2.2.1, yy.2.2.2.1, yy.2.2.2.2.1, yy.2.2.2.2.2.1, yy.2.2.2.2.2.2.1, yy.2.2.2.2.2.2.2, fc) := by
    simp only [dI]
    rw [dA' 2 (by decide), dA' 32 (by decide), dA' 33 (by decide), dA' 34 (by decide), dA' 35 (by decide), dA' 36 (by decide), dA' 37 (by decide), dA' 38 (by decide)]
    unfold f14_fire
    rw [lay_ok hbegun, bind_is, a1', bind_is, if_neg h10, a2', bind_is, if_neg h10, a3', bind_is, if_neg h10, a4', bind_is, if_neg h10, e10, bind_is, efires, bind_is, columns_is, bind_is, gd_t (by decide), lt_is]
    dsimp only
    rw [efc, bind_is]
    unfold f14_fire_e15_0
    rw [w9]
    exact congrArg (fun v => some (yy.1, (0 : Int32), (1 : Int32), yy.1, yy.2.1, nI C, v, yy.2.1, (1 : Int32), layF (I 1122 (z + 126)) (A (z + 128)), yy.2.2.1, yy.2.2.2.1, yy.2.2.2.2.1, yy.2.2.2.2.2.1, yy.2.2.2.2.2.2.1, yy.2.2.2.2.2.2.2, fc)) w10
  have hwb : layF (I' 1122 (z + 126)) (A' (z + 128)) = layF (I 1122 (z + 126)) (A (z + 128)) := by rw [dI, dA 128 (by decide) (by decide)]
  clear hfresh hIS htold htape hfault hrowby hdone hbest hmore hhooks haims hout hstrs hmost hfire hS0 hS11
  have hS11 := b1.2.1.1.2.1
  unfold w_law_j821
  refine ok_lt (ok_gdp ha.r1 (ok_lt (ok_lt (ok_gdp ha.r2 (ok_lt (ok_lt (ok_gdp ha.r3 (ok_lt (ok_lt (ok_gdp ha.r4 (ok_lt (ok_gdp hKz (ok_gdp hu105 ?_)))))))))))))
  rw [← hp1, ← hp2, ← hp3, ← hp4]
  refine ok_e ew ?_
  refine ok_lt (ok_gdp ha.r1 (ok_lt (ok_lt (ok_gdp ha.r2 (ok_lt (ok_lt (ok_gdp ha.r3 (ok_lt (ok_lt (ok_gdp ha.r4 (ok_lt (ok_gdp hu105 (ok_gdp hS11 ?_)))))))))))))
  rw [← hp1, ← hp2, ← hp3, ← hp4]
  refine ok_e e14 (ok_lt (ok_lt (ok_t hx1 (goes ?_ (by omega) (by omega)))))
  dsimp only
  have hi := b1
  obtain ⟨hfresh, hIS, hbegun, htold, htape, hfault, hrowby, hdone, hbest, hmore, hhooks, haims, hout, hstrs, hmost, hfire⟩ := hi
  have hS0 := hIS.1.1
  have hS11 := hIS.1.2.1
  have hKz := hS0.1
  have ers : rsf z (ov I' [(1100, z + 126, (0 : Int32)), (1122, z + 126, 1), (1170, z + 126, yy.1), (1171, z + 126, yy.2.1), (1173, z + 126, nI C), (1174, z + 126, nI R), (1175, z + 126, yy.2.1), (1176, z + 126, 1)]) = ov (rsf z I') [(1100, z + 126, (0 : Int32)), (1122, z + 126, 1), (1170, z + 126, yy.1), (1171, z + 126, yy.2.1), (1173, z + 126, nI C), (1174, z + 126, nI R)] := by
    funext f a
    by_cases r : (f = 38 ∧ a = z) ∨ (f = 1176 ∧ a = z + 126) ∨ (f = 1175 ∧ a = z + 126)
    · rcases r with ⟨rfl, rfl⟩ | ⟨rfl, rfl⟩ | ⟨rfl, rfl⟩ <;> simp [rsf, ov, i_up]
    · rw [rsf_at (by omega) (by omega) (by omega)]
      have e : ∀ l : List (Nat × Nat × Int32), ov I' (l ++ [(1175, z + 126, yy.2.1), (1176, z + 126, (1 : Int32))]) f a = ov (rsf z I') l f a := by
        intro l
        induction l with
        | nil =>
          show ov I' [(1175, z + 126, yy.2.1), (1176, z + 126, (1 : Int32))] f a = rsf z I' f a
          rw [rsf_at (by omega) (by omega) (by omega)]
          refine ov_fr (fun p hp e e2 => ?_)
          simp only [List.mem_cons, List.not_mem_nil, or_false] at hp
          rcases hp with rfl | rfl
          · dsimp only at e e2; omega
          · dsimp only at e e2; omega
        | cons p l ih =>
          show i_up (ov I' (l ++ _)) p.1 p.2.1 p.2.2 f a = i_up (ov (rsf z I') l) p.1 p.2.1 p.2.2 f a
          unfold i_up
          by_cases q : f = p.1
          · rw [if_pos q, if_pos q]
            subst q
            rw [ih]
          · rw [if_neg q, if_neg q]
            exact ih
      exact e [(1100, z + 126, (0 : Int32)), (1122, z + 126, 1), (1170, z + 126, yy.1), (1171, z + 126, yy.2.1), (1173, z + 126, nI C), (1174, z + 126, nI R)]
  have hwb2 : layF (rsf z I' 1122 (z + 126)) (A' (z + 128)) = layF (I 1122 (z + 126)) (A (z + 128)) := by
    rw [rsf_at (by omega) (by omega) (by omega)]
    exact hwb
  refine Inv.unrs ?_ ?_ ?_
  · rw [ers]
    exact ⟨hfresh, hIS, (Or.inr (by simp [ov, i_up, ova, a_up])), (((htold).putI (by simp only [List.forall_mem_cons]; (repeat' apply And.intro); all_goals first | exact (by unfold Lo; omega) | exact Or.inr rfl | exact Or.inl (by unfold Lo; omega) | exact (by decide) | exact fun _ h => absurd h (List.not_mem_nil)) (by simp only [List.forall_mem_cons]; (repeat' apply And.intro); all_goals first | exact (by unfold Lo; omega) | exact Or.inr rfl | exact Or.inl (by unfold Lo; omega) | exact (by decide) | exact fun _ h => absurd h (List.not_mem_nil))).w (by simp [ov, i_up, ova, a_up, layF_1, hwb2])), (by simpa [ov, ova, i_up, a_up] using htape), (by simpa [ov, ova, i_up, a_up] using hfault), (by simpa [ov, ova, i_up, a_up] using hrowby), (by simpa [ov, ova, i_up, a_up] using hdone), (by simpa [ov, ova, i_up, a_up] using hbest), (by simpa [ov, ova, i_up, a_up] using hmore), (by simpa [ov, ova, i_up, a_up] using hhooks), (by simpa [ov, ova, i_up, a_up] using haims), Or.inl ⟨by simp [rsf, ov, i_up], by simp [rsf, ov, i_up]⟩, hstrs, (by simpa [ov, ova, i_up, a_up] using hmost), Or.inl ⟨by simp [rsf, ov, i_up], by simp [rsf, ov, i_up]⟩⟩
  · exact Or.inr ⟨by simpa [ov, i_up] using c38, by simpa [ov, i_up] using h39⟩
  · refine Or.inr ⟨by simpa [ov, i_up] using c38, by simp [ov, i_up], y, C, R, c904, cky, hC, hR, by simpa [ov, i_up] using c304, by simpa [ov, i_up] using c305, by simp [ov, i_up], by simp [ov, i_up], fun r c hr hc => ?_⟩
    obtain ⟨⟨-, q1, -⟩, ⟨q2, q3⟩, ⟨q4, q5⟩, q6, q7⟩ := hg'.1 r c hr hc
    obtain ⟨k1, k2, k3⟩ := hfc (C * r + c) (cell_lt hC hR hr hc).1
    have f81 : ∀ k, k < 126 → ova A' [(z + 126 + 2, layF (I 1122 (z + 126)) (A (z + 128))), (z + 126 + 32, yy.2.2.1), (z + 126 + 33, yy.2.2.2.1), (z + 126 + 34, yy.2.2.2.2.1), (z + 126 + 35, yy.2.2.2.2.2.1), (z + 126 + 36, yy.2.2.2.2.2.2.1), (z + 126 + 37, yy.2.2.2.2.2.2.2), (z + 126 + 38, fc)] (z + k) = A' (z + k) := fun k hk => ova_fr (fun p hp e => by
      simp only [List.mem_cons, List.not_mem_nil, or_false] at hp
      rcases hp with rfl | rfl | rfl | rfl | rfl | rfl | rfl | rfl <;> (dsimp only at e; omega))
    have f164 : ova A' [(z + 126 + 2, layF (I 1122 (z + 126)) (A (z + 128))), (z + 126 + 32, yy.2.2.1), (z + 126 + 33, yy.2.2.2.1), (z + 126 + 34, yy.2.2.2.2.1), (z + 126 + 35, yy.2.2.2.2.2.1), (z + 126 + 36, yy.2.2.2.2.2.2.1), (z + 126 + 37, yy.2.2.2.2.2.2.2), (z + 126 + 38, fc)] (z + 164) = fc := by simp [ova, a_up]
    rw [f81 81 (by decide), f81 82 (by decide), f81 84 (by decide), f164, k1, k2, k3, q2, q3, q4, q5, q6, q7]
    refine ⟨rfl, ?_, rfl⟩
    rcases q1 with e | ⟨e, -⟩
    · rw [e]
      exact Or.inl ⟨rfl, rfl⟩
    · rw [e]
      exact Or.inr ⟨rfl, rfl⟩
