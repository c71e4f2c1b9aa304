/-! the plain law: the whole night -/
set_option maxRecDepth 100000
theorem nights_eq {adS : Nat → Nat} {z n : Nat} {K : gK} {I : gI} {J : gJ} {X : gX} {A : gI} {B : gJ} {Q : gX} (hi : Inv adS z K I J X A B Q n) (many kind well tick empty away lit spilt pails drawn lost : Int32) (team rest load done queue waits most comes state fuel burn wet heat night : Nat → Int32) :
    Ok (w1_nights z adS z K I J X A B Q n) (fun x => Ok (f14_spend 1 many kind well tick empty away lit spilt pails drawn lost (layF (I 1122 (z + 126)) (A (z + 128))) team rest load done queue waits most comes state fuel burn wet heat night) (fun y => ∃ (I1 : gI) (X1 : gX) (A1 : gI), x = (K, I1, J, X1, A1, B, Q, n) ∧ Chg z I X A I1 X1 A1 ∧ I1 1 z = I 1 z ∧ y.1 = 1 ∧ y.2.2.2.2.2.2.2.2.2.2.2.2.1 = layF (I 1122 (z + 126)) (A (z + 128)) ∧ ∀ j, j < 60 → A1 (z + 119) j = y.2.2.2.2.2.2.2.2.2.2.2.2.2.2.2.2.2.2.2.2.2.2.2.2.2.2 (4 * j) ∧ A1 (z + 120) j = y.2.2.2.2.2.2.2.2.2.2.2.2.2.2.2.2.2.2.2.2.2.2.2.2.2.2 (4 * j + 1) ∧ A1 (z + 121) j = y.2.2.2.2.2.2.2.2.2.2.2.2.2.2.2.2.2.2.2.2.2.2.2.2.2.2 (4 * j + 2) ∧ A1 (z + 122) j = y.2.2.2.2.2.2.2.2.2.2.2.2.2.2.2.2.2.2.2.2.2.2.2.2.2.2 (4 * j + 3))) := by
  obtain ⟨hfresh, hIS, hbegun, htold, htape, hfault, hrowby, hdone, hbest, hmore, hhooks, haims, hout, hstrs, hmost, hfire⟩ := hi
  have hS0 := hIS.1.1
  have hS11 := hIS.1.2.1
  have hKz := hS0.1
  have hI := hIS
  obtain ⟨⟨-, -, hL171⟩, ⟨hK7, hX9⟩, ⟨hS16, hX13⟩, ⟨hS60, hX15⟩, ⟨hS85, hX36⟩, ⟨⟨hS92, hS97, hS102, hS107⟩, hQ0, hQ1, hQ2, hQ3⟩, hG, ⟨hK2, hX4⟩, ⟨hK14, hX10, hX507, hX509⟩, ⟨hK15, hX11, hX607, hX609⟩, ⟨hS123, hX50, hX1007, hX1010⟩, ⟨hS80, hX35⟩, ⟨hS114, hX45⟩, ⟨hS38, hX14⟩, ⟨hS65, hX16⟩, hG2, hyards, hseen1, hseen2⟩ := hI
  obtain ⟨S, hS, hsn, ⟨y, M, C, R, P, hyy, hnm, ⟨pl, Np, hpl⟩, hsent⟩, himg⟩ := htold.ex
  have hyy0 := hyy
  obtain ⟨hy, hz, hsh, hm, hY⟩ := hyy
  obtain ⟨H, D, s, bk, W0, hTY, hW0, g310, w5⟩ := hY.ty
  have hYY := hY
  obtain ⟨⟨-, hC, hR, -, -, hP2⟩, ⟨-, -, -, w9, -, w10, -, w2⟩, -⟩ := hYY
  have hny : ∀ d, d < 4 → y + d ≠ z + 114 + 1 ∧ y + d ≠ z + 114 + 2 ∧ y + d ≠ z + 114 + 4 := fun d hd => by
    have := hz d hd
    unfold Fz at this
    omega
  have hnda : nda [(z + 114 + 1), (z + 114 + 2), (z + 114 + 4), (y + 2), (y + 3)] := by
    have h2 := hny 2 (by decide)
    have h3 := hny 3 (by decide)
    simp [nda]
    omega
  obtain ⟨r9, e9, r2, e2, l1, l14, F, BB, hg⟩ := light_eq hY (I 905 (z + 114)) lost (A (z + 114 + 1)) (A (z + 114 + 2)) (A (z + 114 + 4)) fuel wet burn
  obtain ⟨r5, e5, rest', load', done', waits', most', state', rfl, hz14⟩ := start_ok (P := P) (N := 0) (how := 0) w2 hP2 (by decide) (by decide) many kind tick empty away lit spilt pails drawn rest load done waits most state
  unfold w1_nights f14_spend
  rw [lay_ok (Or.inr rfl), layF_1]
  refine ok_gdp hKz (ok_lt (ok_lt (ok_e hX9 (ok_gdp hK7 (ok_lt (ok_e hX45 (ok_e hy (ok_gdp hS114 (ok_gdp hsh (ok_gdp hnda (ok_e (x := r9) e9 ?_)))))))))))
  refine ok_ltg fun I1 hI1 => ok_ltg fun X1 hX1 => ok_ltg fun A1 hA1 => ?_
  have eX : ∀ f, f ≠ 904 → X1 f = X f := fun f hf => by
    rw [hX1]
    exact ov_no (by simp [ovn]; exact fun e => hf e.symm)
  have hc : Chg z I X A I1 X1 A1 := by
    subst hI1 hX1 hA1
    refine ((Chg.refl.putI (by simp only [List.forall_mem_cons]; (repeat' apply And.intro); all_goals first | exact fun _ h => absurd h (List.not_mem_nil) | exact (by unfold Lo; omega) | exact Or.inl (by unfold Sc; omega) | exact Or.inl (by unfold ScM; omega) | exact Or.inr rfl | exact Or.inr trivial | exact Or.inl trivial | exact Or.inr (Or.inl trivial) | exact Or.inr (Or.inr ⟨trivial, by omega⟩) | omega) (by rfl)).putX ?_).putA (by simp only [List.forall_mem_cons]; (repeat' apply And.intro); all_goals first | exact fun _ h => absurd h (List.not_mem_nil) | exact (by unfold Lo; omega) | exact Or.inl (by unfold Sc; omega) | exact Or.inl (by unfold ScM; omega) | exact Or.inr rfl | exact Or.inr trivial | exact Or.inl trivial | exact Or.inr (Or.inl trivial) | exact Or.inr (Or.inr ⟨trivial, by omega⟩) | omega)
    simp only [List.forall_mem_cons]
    exact ⟨⟨by unfold Lo; omega, by omega, by first | exact Or.inr (Or.inr ⟨trivial, by omega⟩) | exact Or.inr (Or.inr ⟨rfl, by omega⟩) | omega⟩, fun _ h => absurd h (List.not_mem_nil)⟩
  have h310 : I1 310 y = nI W0 := by
    rw [hc.rd (f := 310) (by decide)]
    exact g310
  refine ok_lt (ok_e (x := z + 7) (by rw [eX 9 (by decide)]; exact hX9) (ok_gdp hK7 (ok_lt (ok_e (x := y) (by rw [eX 200 (by decide)]; exact hy) (ok_gdp hsh.1 (ok_lt ?_))))))
  rw [h310]
  have hA15 : A1 (z + 115) = r9.2.1 ∧ A1 (z + 116) = r9.2.2.1 ∧ A1 (z + 118) = r9.2.2.2 := by
    rw [hA1]
    simp [ova, a_up]
  have h0 : NR z y M C R bk Np 0 I X A J B Q (none, nI W0, (1 : Int32), (0 : Int32), I1, J, X1, A1, B, Q) ((1 : Int32), (0 : Int32), nI (if 0 = 2 then min 0 P else 0), nI 0, nI W0, 0, nI P, 0, 0, 0, 0, 0, r2.1, team, rest', load', done', queue, waits', most', comes, state', r2.2.1, r2.2.2.1, r2.2.2.2, heat, night) := by
    refine ⟨⟨hc, rfl, rfl, rfl, fun f => ?_⟩, ⟨rfl, Or.inl ⟨1, by decide, rfl⟩⟩, ⟨0, Nat.zero_le _, rfl, rfl⟩, ⟨W0, rfl, hW0, rfl, Or.inl ⟨rfl, rfl⟩⟩, ?_, ⟨0, F, BB, fun _ _ => 0, by omega, ?_, l14, ?_⟩, fun j hj => absurd hj (Nat.not_lt_zero _)⟩
    · show I1 f z = I f z
      rw [hI1]
      refine ov_fr (fun p hp e => ?_)
      simp only [List.mem_cons, List.not_mem_nil, or_false] at hp
      subst hp
      dsimp only at e
      omega
    · show X1 904 (z + 114) = some y
      rw [hX1]
      simp [ov, i_up]
    · show I1 905 (z + 114) = nI 0
      rw [hI1, ← l1]
      simp [ov, i_up]
    · dsimp only
      rw [hA15.1, hA15.2.1, hA15.2.2]
      exact hg
  have hloop := for2_ok (s := fun (s23 : (Option Nat) × Int32 × Int32 × Int32 × Int32 × gI × gJ × gX × gI × gJ × gX) => w1_nights_s23 z K n s23.1 s23.2.1 s23.2.2.1 s23.2.2.2.1 s23.2.2.2.2.1 s23.2.2.2.2.2.1 s23.2.2.2.2.2.2.1 s23.2.2.2.2.2.2.2.1 s23.2.2.2.2.2.2.2.2.1 s23.2.2.2.2.2.2.2.2.2.1 s23.2.2.2.2.2.2.2.2.2.2) (s2 := fun (s6 : Int32 × Int32 × Int32 × Int32 × Int32 × Int32 × Int32 × Int32 × Int32 × Int32 × Int32 × Int32 × Int32 × Int32 × (Nat → Int32) × (Nat → Int32) × (Nat → Int32) × (Nat → Int32) × (Nat → Int32) × (Nat → Int32) × (Nat → Int32) × (Nat → Int32) × (Nat → Int32) × (Nat → Int32) × (Nat → Int32) × (Nat → Int32) × (Nat → Int32) × (Nat → Int32)) => f14_spend_s6 ((1 : Int32), layF (I 1122 (z + 126)) (A (z + 128))) s6.1 s6.2.1 s6.2.2.1 s6.2.2.2.1 s6.2.2.2.2.1 s6.2.2.2.2.2.1 s6.2.2.2.2.2.2.1 s6.2.2.2.2.2.2.2.1 s6.2.2.2.2.2.2.2.2.1 s6.2.2.2.2.2.2.2.2.2.1 s6.2.2.2.2.2.2.2.2.2.2.1 s6.2.2.2.2.2.2.2.2.2.2.2.1 s6.2.2.2.2.2.2.2.2.2.2.2.2.1 s6.2.2.2.2.2.2.2.2.2.2.2.2.2.1 s6.2.2.2.2.2.2.2.2.2.2.2.2.2.2.1 s6.2.2.2.2.2.2.2.2.2.2.2.2.2.2.2.1 s6.2.2.2.2.2.2.2.2.2.2.2.2.2.2.2.2.1 s6.2.2.2.2.2.2.2.2.2.2.2.2.2.2.2.2.2.1 s6.2.2.2.2.2.2.2.2.2.2.2.2.2.2.2.2.2.2.1 s6.2.2.2.2.2.2.2.2.2.2.2.2.2.2.2.2.2.2.2.1 s6.2.2.2.2.2.2.2.2.2.2.2.2.2.2.2.2.2.2.2.2.1 s6.2.2.2.2.2.2.2.2.2.2.2.2.2.2.2.2.2.2.2.2.2.1 s6.2.2.2.2.2.2.2.2.2.2.2.2.2.2.2.2.2.2.2.2.2.2.1 s6.2.2.2.2.2.2.2.2.2.2.2.2.2.2.2.2.2.2.2.2.2.2.2.1 s6.2.2.2.2.2.2.2.2.2.2.2.2.2.2.2.2.2.2.2.2.2.2.2.2.1 s6.2.2.2.2.2.2.2.2.2.2.2.2.2.2.2.2.2.2.2.2.2.2.2.2.2.1 s6.2.2.2.2.2.2.2.2.2.2.2.2.2.2.2.2.2.2.2.2.2.2.2.2.2.2.1 s6.2.2.2.2.2.2.2.2.2.2.2.2.2.2.2.2.2.2.2.2.2.2.2.2.2.2.2)
    (P := fun (r : gK × gI × gJ × gX × gI × gJ × gX × Nat) (q : Int32 × Int32 × Int32 × Int32 × Int32 × Int32 × Int32 × Int32 × Int32 × Int32 × Int32 × Int32 × (Nat → Int32) × (Nat → Int32) × (Nat → Int32) × (Nat → Int32) × (Nat → Int32) × (Nat → Int32) × (Nat → Int32) × (Nat → Int32) × (Nat → Int32) × (Nat → Int32) × (Nat → Int32) × (Nat → Int32) × (Nat → Int32) × (Nat → Int32) × (Nat → Int32)) => ∃ (I1 : gI) (X1 : gX) (A1 : gI), r = (K, I1, J, X1, A1, B, Q, n) ∧ Chg z I X A I1 X1 A1 ∧ I1 1 z = I 1 z ∧ q.1 = 1 ∧ q.2.2.2.2.2.2.2.2.2.2.2.2.1 = layF (I 1122 (z + 126)) (A (z + 128)) ∧ ∀ j, j < 60 → A1 (z + 119) j = q.2.2.2.2.2.2.2.2.2.2.2.2.2.2.2.2.2.2.2.2.2.2.2.2.2.2 (4 * j) ∧ A1 (z + 120) j = q.2.2.2.2.2.2.2.2.2.2.2.2.2.2.2.2.2.2.2.2.2.2.2.2.2.2 (4 * j + 1) ∧ A1 (z + 121) j = q.2.2.2.2.2.2.2.2.2.2.2.2.2.2.2.2.2.2.2.2.2.2.2.2.2.2 (4 * j + 2) ∧ A1 (z + 122) j = q.2.2.2.2.2.2.2.2.2.2.2.2.2.2.2.2.2.2.2.2.2.2.2.2.2.2 (4 * j + 3))
    (fun i (x : Option Nat × Int32 × Int32 × Int32 × gI × gJ × gX × gI × gJ × gX) => (x.1, x.2.1, x.2.2.1, x.2.2.2.1, nI i, x.2.2.2.2)) (fun i (q : Int32 × Int32 × Int32 × Int32 × Int32 × Int32 × Int32 × Int32 × Int32 × Int32 × Int32 × Int32 × Int32 × (Nat → Int32) × (Nat → Int32) × (Nat → Int32) × (Nat → Int32) × (Nat → Int32) × (Nat → Int32) × (Nat → Int32) × (Nat → Int32) × (Nat → Int32) × (Nat → Int32) × (Nat → Int32) × (Nat → Int32) × (Nat → Int32) × (Nat → Int32)) => (q.1, q.2.1, nI i, q.2.2)) (fun i x q => NR z y M C R bk Np i I X A J B Q x q) 60 (by decide) h0 (fun i x q hi hx => ?_) (fun x q hx => ?_)
  · obtain ⟨r, er, q, eq, hP⟩ := hloop
    refine ok_e er ?_
    unfold w1_nights_e23_0
    refine ok_i ?_
    rw [bind_is]
    refine ok_e e2 (ok_gd (by decide) (ok_lt ?_))
    refine ok_e e5 ?_
    have w5' : layF (I 1122 (z + 126)) (A (z + 128)) (5 : Int32).toNatClampNeg = nI W0 := w5
    dsimp only
    rw [w5']
    refine ok_e eq ?_
    unfold f14_spend_e6_0
    exact ok_i hP
  · refine ok_w2 (night_min (n := n) hIS hyy0 hTY hpl hi hx) ?_
    rintro o q' ⟨x', y', rfl, rfl, hN⟩
    exact ⟨x', y', rfl, rfl, hN⟩
  · obtain ⟨⟨hc', j1, j2, j3, hz1⟩, -, -, -, -, -, hr⟩ := hx
    dsimp only
    unfold w1_nights_s23 f14_spend_s6
    rw [if_pos (show (60 : Int32) ≤ nI 60 by decide), if_pos (show (60 : Int32) ≤ nI 60 by decide), j1, j2, j3]
    exact ok_i (ok_i ⟨_, _, rfl, rfl, _, _, _, rfl, hc', hz1 1, rfl, rfl, hr⟩)
