/-! the plain law: a minute of the night -/
set_option maxRecDepth 100000
theorem Gr.mono {C R Z Z' : Nat} {F B V : Nat → Nat → Nat} {f1 v1 b1 f14 v14 b14 : Nat → Int32} (h : Gr C R Z F B V f1 v1 b1 f14 v14 b14) (hZ : Z ≤ Z') : Gr C R Z' F B V f1 v1 b1 f14 v14 b14 :=
  ⟨fun r c hr hc => by
    obtain ⟨⟨a1, a2, a3⟩, b⟩ := h.1 r c hr hc
    exact ⟨⟨a1, a2, Nat.le_trans a3 hZ⟩, b⟩, h.2⟩
def NR (z yy M C R bk Np m : Nat) (I0 : gI) (X0 : gX) (A0 : gI) (J : gJ) (B : gJ) (Q : gX) (x : Option Nat × Int32 × Int32 × Int32 × gI × gJ × gX × gI × gJ × gX) (y : Int32 × Int32 × Int32 × Int32 × Int32 × Int32 × Int32 × Int32 × Int32 × Int32 × Int32 × Int32 × Int32 × (Nat → Int32) × (Nat → Int32) × (Nat → Int32) × (Nat → Int32) × (Nat → Int32) × (Nat → Int32) × (Nat → Int32) × (Nat → Int32) × (Nat → Int32) × (Nat → Int32) × (Nat → Int32) × (Nat → Int32) × (Nat → Int32) × (Nat → Int32)) : Prop :=
  (Chg z I0 X0 A0 x.2.2.2.2.1 x.2.2.2.2.2.2.1 x.2.2.2.2.2.2.2.1 ∧ x.2.2.2.2.2.1 = J ∧ x.2.2.2.2.2.2.2.2.1 = B ∧ x.2.2.2.2.2.2.2.2.2 = Q ∧ ∀ f, x.2.2.2.2.1 f z = I0 f z) ∧ (x.2.2.1 = y.1 ∧ Aim C R y.1) ∧ (∃ kk, kk ≤ Np ∧ x.2.2.2.1 = nI kk ∧ y.2.1 = nI kk) ∧
  (∃ Wt, x.2.1 = nI Wt ∧ TeamR z yy M bk m x.1 x.2.2.2.2.1 x.2.2.2.2.2.2.1 x.2.2.2.2.2.2.2.1 Wt y.2.2.1 y.2.2.2.1 y.2.2.2.2.2.2.2.2.2.2.2.2.2.1 (y.2.2.2.2.1, y.2.2.2.2.2.1, y.2.2.2.2.2.2.1, y.2.2.2.2.2.2.2.1, y.2.2.2.2.2.2.2.2.1, y.2.2.2.2.2.2.2.2.2.1, y.2.2.2.2.2.2.2.2.2.2.1, y.2.2.2.2.2.2.2.2.2.2.2.1, y.2.2.2.2.2.2.2.2.2.2.2.2.2.2.1, y.2.2.2.2.2.2.2.2.2.2.2.2.2.2.2.1, y.2.2.2.2.2.2.2.2.2.2.2.2.2.2.2.2.1, y.2.2.2.2.2.2.2.2.2.2.2.2.2.2.2.2.2.1, y.2.2.2.2.2.2.2.2.2.2.2.2.2.2.2.2.2.2.1, y.2.2.2.2.2.2.2.2.2.2.2.2.2.2.2.2.2.2.2.1, y.2.2.2.2.2.2.2.2.2.2.2.2.2.2.2.2.2.2.2.2.1, y.2.2.2.2.2.2.2.2.2.2.2.2.2.2.2.2.2.2.2.2.2.1)) ∧
  x.2.2.2.2.2.2.1 904 (z + 114) = some yy ∧ (∃ (l : Nat) (F BB V : Nat → Nat → Nat), l ≤ 64 * m ∧ x.2.2.2.2.1 905 (z + 114) = nI l ∧ y.2.2.2.2.2.2.2.2.2.2.2.2.1 = nI l ∧ Gr C R (9999 * m) F BB V (x.2.2.2.2.2.2.2.1 (z + 115)) (x.2.2.2.2.2.2.2.1 (z + 116)) (x.2.2.2.2.2.2.2.1 (z + 118)) y.2.2.2.2.2.2.2.2.2.2.2.2.2.2.2.2.2.2.2.2.2.2.1 y.2.2.2.2.2.2.2.2.2.2.2.2.2.2.2.2.2.2.2.2.2.2.2.2.1 y.2.2.2.2.2.2.2.2.2.2.2.2.2.2.2.2.2.2.2.2.2.2.2.1) ∧
  ∀ j, j < m → x.2.2.2.2.2.2.2.1 (z + 119) j = y.2.2.2.2.2.2.2.2.2.2.2.2.2.2.2.2.2.2.2.2.2.2.2.2.2.2 (4 * j) ∧ x.2.2.2.2.2.2.2.1 (z + 120) j = y.2.2.2.2.2.2.2.2.2.2.2.2.2.2.2.2.2.2.2.2.2.2.2.2.2.2 (4 * j + 1) ∧ x.2.2.2.2.2.2.2.1 (z + 121) j = y.2.2.2.2.2.2.2.2.2.2.2.2.2.2.2.2.2.2.2.2.2.2.2.2.2.2 (4 * j + 2) ∧ x.2.2.2.2.2.2.2.1 (z + 122) j = y.2.2.2.2.2.2.2.2.2.2.2.2.2.2.2.2.2.2.2.2.2.2.2.2.2.2 (4 * j + 3)
theorem night_min {z yy M C R P H D s bk m Np pl n : Nat} {S : Nat → Prop} {K : gK} {I0 : gI} {J : gJ} {X0 : gX} {A0 : gI} {B : gJ} {Q : gX} {w : Nat → Int32} {x : Option Nat × Int32 × Int32 × Int32 × gI × gJ × gX × gI × gJ × gX} {y : Int32 × Int32 × Int32 × Int32 × Int32 × Int32 × Int32 × Int32 × Int32 × Int32 × Int32 × Int32 × Int32 × (Nat → Int32) × (Nat → Int32) × (Nat → Int32) × (Nat → Int32) × (Nat → Int32) × (Nat → Int32) × (Nat → Int32) × (Nat → Int32) × (Nat → Int32) × (Nat → Int32) × (Nat → Int32) × (Nat → Int32) × (Nat → Int32) × (Nat → Int32)}
    (hIS : IS z K X0 Q) (hyy : YardX z S K I0 X0 A0 Q (z + 7) w yy M C R P) (hTY : TY (fun k => I0 k yy) w H D s bk) (hpl : X0 201 (z + 7) = some pl ∧ Fz z S pl ∧ Fz z S (pl + 1) ∧ K pl = some (.inl 4) ∧ K (pl + 1) = some (.inr (5, 20)) ∧ X0 400 pl = some (pl + 1) ∧ I0 401 pl = nI Np ∧ Np ≤ 20 ∧ w 200 = nI Np ∧ ∀ k, k < Np → ∃ t : Nat, Q (pl + 1) k = some t ∧ ThingX z S K I0 X0 A0 w M C R t k) (hm : m < 60) (h : NR z yy M C R bk Np m I0 X0 A0 J B Q x y) :
    Ok (w1_nights_s23 z K n x.1 x.2.1 x.2.2.1 x.2.2.2.1 (nI m) x.2.2.2.2.1 x.2.2.2.2.2.1 x.2.2.2.2.2.2.1 x.2.2.2.2.2.2.2.1 x.2.2.2.2.2.2.2.2.1 x.2.2.2.2.2.2.2.2.2) (fun o => Ok (f14_spend_s6 ((1 : Int32), w) y.1 y.2.1 (nI m) y.2.2.1 y.2.2.2.1 y.2.2.2.2.1 y.2.2.2.2.2.1 y.2.2.2.2.2.2.1 y.2.2.2.2.2.2.2.1 y.2.2.2.2.2.2.2.2.1 y.2.2.2.2.2.2.2.2.2.1 y.2.2.2.2.2.2.2.2.2.2.1 y.2.2.2.2.2.2.2.2.2.2.2.1 y.2.2.2.2.2.2.2.2.2.2.2.2.1 y.2.2.2.2.2.2.2.2.2.2.2.2.2.1 y.2.2.2.2.2.2.2.2.2.2.2.2.2.2.1 y.2.2.2.2.2.2.2.2.2.2.2.2.2.2.2.1 y.2.2.2.2.2.2.2.2.2.2.2.2.2.2.2.2.1 y.2.2.2.2.2.2.2.2.2.2.2.2.2.2.2.2.2.1 y.2.2.2.2.2.2.2.2.2.2.2.2.2.2.2.2.2.2.1 y.2.2.2.2.2.2.2.2.2.2.2.2.2.2.2.2.2.2.2.1 y.2.2.2.2.2.2.2.2.2.2.2.2.2.2.2.2.2.2.2.2.1 y.2.2.2.2.2.2.2.2.2.2.2.2.2.2.2.2.2.2.2.2.2.1 y.2.2.2.2.2.2.2.2.2.2.2.2.2.2.2.2.2.2.2.2.2.2.1 y.2.2.2.2.2.2.2.2.2.2.2.2.2.2.2.2.2.2.2.2.2.2.2.1 y.2.2.2.2.2.2.2.2.2.2.2.2.2.2.2.2.2.2.2.2.2.2.2.2.1 y.2.2.2.2.2.2.2.2.2.2.2.2.2.2.2.2.2.2.2.2.2.2.2.2.2.1 y.2.2.2.2.2.2.2.2.2.2.2.2.2.2.2.2.2.2.2.2.2.2.2.2.2.2) (fun q => ∃ (x' : Option Nat × Int32 × Int32 × Int32 × gI × gJ × gX × gI × gJ × gX) (y' : Int32 × Int32 × Int32 × Int32 × Int32 × Int32 × Int32 × Int32 × Int32 × Int32 × Int32 × Int32 × Int32 × (Nat → Int32) × (Nat → Int32) × (Nat → Int32) × (Nat → Int32) × (Nat → Int32) × (Nat → Int32) × (Nat → Int32) × (Nat → Int32) × (Nat → Int32) × (Nat → Int32) × (Nat → Int32) × (Nat → Int32) × (Nat → Int32) × (Nat → Int32)), o = .inl (x'.1, x'.2.1, x'.2.2.1, x'.2.2.2.1, nI (m + 1), x'.2.2.2.2) ∧ q = .inl (y'.1, y'.2.1, nI (m + 1), y'.2.2) ∧ NR z yy M C R bk Np (m + 1) I0 X0 A0 J B Q x' y')) := by
  obtain ⟨tm, wat, aim, kx, I, J', X, A, B', Q'⟩ := x
  obtain ⟨y1, y2, y3, y4, y5, y6, y7, y8, y9, y10, y11, y12, y13, y14, y15, y16, y17, y18, y19, y20, y21, y22, y23, y24, y25, y26, y27⟩ := y
  obtain ⟨⟨hc, e1, e2, e3, hz1⟩, ⟨e4, haim⟩, ⟨kk, hkk, e5, e6⟩, ⟨Wt, e7, hT⟩, h904, ⟨l, F, BB, V, hl, h905, hl14, hg⟩, hrows⟩ := h
  dsimp only at hc e1 e2 e3 hz1 e4 haim e5 e6 e7 hT h904 h905 hl14 hg hrows ⊢
  subst e1 e2 e3 e4 e5 e6 e7 hl14
  have hv1 : y5 = nI Wt := hT.2.1
  subst hv1
  have hpl0 := hpl
  obtain ⟨-, -, -, -, -, -, -, hNp, -⟩ := hpl0
  unfold w1_nights_s23 f14_spend_s6
  rw [if_neg (show ¬ (60 : Int32) ≤ nI m from nI_ge (b := 60) hm (by decide)), if_neg (show ¬ (60 : Int32) ≤ nI m from nI_ge (b := 60) hm (by decide))]
  -- the things of the minute
  have hth : Ok (whl (fun (s25 : (Option Nat) × Int32 × Int32 × gI × gJ × gX × gI × gJ × gX) => w1_nights_s25 z K (nI Wt) (nI m) s25.1 s25.2.1 s25.2.2.1 s25.2.2.2.1 s25.2.2.2.2.1 s25.2.2.2.2.2.1 s25.2.2.2.2.2.2.1 s25.2.2.2.2.2.2.2.1 s25.2.2.2.2.2.2.2.2) FU (tm, aim, nI kk, I, J', X, A, B', Q')) (fun x => Ok (whl (fun (s8 : Int32 × Int32 × Int32 × Int32 × Int32 × Int32 × Int32 × Int32 × Int32 × Int32 × Int32 × (Nat → Int32) × (Nat → Int32) × (Nat → Int32) × (Nat → Int32) × (Nat → Int32) × (Nat → Int32) × (Nat → Int32) × (Nat → Int32) × (Nat → Int32)) => f14_spend_s8 ((1 : Int32), w) (nI m) s8.1 s8.2.1 s8.2.2.1 s8.2.2.2.1 s8.2.2.2.2.1 s8.2.2.2.2.2.1 s8.2.2.2.2.2.2.1 s8.2.2.2.2.2.2.2.1 s8.2.2.2.2.2.2.2.2.1 s8.2.2.2.2.2.2.2.2.2.1 s8.2.2.2.2.2.2.2.2.2.2.1 s8.2.2.2.2.2.2.2.2.2.2.2.1 s8.2.2.2.2.2.2.2.2.2.2.2.2.1 s8.2.2.2.2.2.2.2.2.2.2.2.2.2.1 s8.2.2.2.2.2.2.2.2.2.2.2.2.2.2.1 s8.2.2.2.2.2.2.2.2.2.2.2.2.2.2.2.1 s8.2.2.2.2.2.2.2.2.2.2.2.2.2.2.2.2.1 s8.2.2.2.2.2.2.2.2.2.2.2.2.2.2.2.2.2.1 s8.2.2.2.2.2.2.2.2.2.2.2.2.2.2.2.2.2.2.1 s8.2.2.2.2.2.2.2.2.2.2.2.2.2.2.2.2.2.2.2) FU (aim, nI kk, y3, y4, y6, y7, y8, y9, y10, y11, y12, y14, y15, y16, y17, y19, y20, y22, y23, y24)) (fun y => ∃ kk', kk' ≤ Np ∧ ThR z yy M C R bk m (9999 * m) kk' V Wt I0 X0 A0 I A J' B' Q' y18 y21 y25 x y)) := by
    refine ok_fu2 (fun k (s : (Option Nat) × Int32 × Int32 × gI × gJ × gX × gI × gJ × gX) (t : Int32 × Int32 × Int32 × Int32 × Int32 × Int32 × Int32 × Int32 × Int32 × Int32 × Int32 × (Nat → Int32) × (Nat → Int32) × (Nat → Int32) × (Nat → Int32) × (Nat → Int32) × (Nat → Int32) × (Nat → Int32) × (Nat → Int32) × (Nat → Int32)) => ∃ kk', kk' ≤ Np ∧ k = Np - kk' ∧ ThR z yy M C R bk m (9999 * m) kk' V Wt I0 X0 A0 I A J' B' Q' y18 y21 y25 s t) (k := Np - kk) (by omega) ⟨kk, hkk, rfl, ⟨hc, rfl, rfl, rfl, hz1⟩, ⟨rfl, haim⟩, ⟨rfl, rfl⟩, hT, ⟨F, BB, hg⟩, h904, rfl, fun _ _ _ => rfl⟩ ?_
    rintro k sx ty ⟨kk', hkk', rfl, hth⟩
    refine ok_w2 (thing_step hIS hyy hpl hm hkk' hth) ?_
    rintro o q (⟨rfl, rfl⟩ | ⟨hlt, x', y', rfl, rfl, hth'⟩)
    · exact ⟨kk', hkk', hth⟩
    · exact ⟨Np - (kk' + 1), by omega, kk' + 1, by omega, rfl, hth'⟩
  obtain ⟨⟨tm2, aim2, kx2, I2, J2, X2, A2, B2, Q2⟩, ex, x8, e8, kk2, hkk2, hth2⟩ := hth
  refine ok_e ex ?_
  obtain ⟨⟨hc2, e1, e2, e3, hz2⟩, ⟨e4, haim2⟩, ⟨e5, e6⟩, hT2, ⟨F2, BB2, hg2⟩, h904', h905', hrows'⟩ := hth2
  dsimp only at hc2 e1 e2 e3 hz2 e4 haim2 e5 e6 hT2 hg2 h904' h905' hrows'
  subst e1 e2 e3 e4 e5
  obtain ⟨hy, hz, hsh0, hm12, hY⟩ := hyy
  obtain ⟨t, W', I3, A3, v', ht, hc3, hloop, hlit, hT3, eA3, eI3, ee⟩ := team_min (J := J2) (B := B2) hY hTY hc2 hIS hsh0.1 (fun j q hq => (hm12 j q hq).1) hm x8 hT2 x8.1 (nI kk2)
  rw [ee]
  -- the rest of the minute on PailRow's side
  have hISx := hc3.IS hIS
  have hS0 := hISx.1.1
  have hx := hISx.o
  obtain ⟨-, -, -, -, -, ⟨hS114, hX45⟩, -, -, -, hyards, -⟩ := hx
  have hsy := hyards yy hsh0.1
  have hYY := hY
  obtain ⟨⟨-, hC, hR, -⟩, ⟨-, -, g304, w9, g305, w10, -⟩, -, ⟨g314, -⟩, -⟩ := hYY
  have e304 : I3 304 yy = nI C := by rw [hc3.rd (f := 304) (by decide)]; exact g304
  have e305 : I3 305 yy = nI R := by rw [hc3.rd (f := 305) (by decide)]; exact g305
  have e314 : I3 314 yy = w 11 := by rw [hc3.rd (f := 314) (by decide)]; exact g314
  obtain ⟨x46, l46⟩ := hS0.len 19 rfl
  obtain ⟨x47, l47⟩ := hS0.len 20 rfl
  obtain ⟨x48, l48⟩ := hS0.len 21 rfl
  obtain ⟨x49, l49⟩ := hS0.len 22 rfl
  have h60 : inb (nI m) 60 := inb_nI hm (by decide)
  have hcm : (nI m).toNatClampNeg = m := nI_clamp (by omega)
  obtain ⟨A4, hA4⟩ : ∃ A4, A4 = a_up A3 (z + 119) (upd (A3 (z + 119)) m (nI t)) := ⟨_, rfl⟩
  have eA4 : ∀ a, a ≠ z + 119 → A4 a = A3 a := fun a h => by
    rw [hA4]
    unfold a_up
    exact if_neg h
  have eA4b : ∀ k, 115 ≤ k → k ≤ 118 → A4 (z + k) = A2 (z + k) := fun k h1 h2 => by
    rw [eA4 _ (by omega)]
    exact eA3 _ (by omega)
  have hti : 9999 * m + t < 2 ^ 29 := by omega
  obtain ⟨r33, er33, rr9, er9, hcel⟩ := aimed_eq hg2.gp hg2.gm w9 w10 rfl hC hR haim2 (A4 (z + 117))
  have hl905 : I3 905 (z + 114) = nI l := by
    rw [eI3 905 _ (by omega) (by omega), h905']
    exact h905
  obtain ⟨r43, er43, rr12, er12, ⟨l', hl', g1, g2⟩, F3, B3, V3, hg3⟩ := minute_eq hg2 w9 w10 rfl hC hR hti (show l < 2 ^ 29 by omega) hcel r33.2 y26
  obtain ⟨rb, erb, rb', erb', nb, hnb, rfl, rfl⟩ := burning_eq hg3 w9 w10 hC hR
  rw [← hA4]
  unfold w1_nights_j240
  refine ok_lt (ok_e hX45 (ok_e h904' (ok_gdp hS114 (ok_gdp hsy (ok_e (x := r33) (by
    show f12_aimed x8.1 (I3 304 yy) (I3 305 yy) (I3 314 yy) (A4 (z + 115)) (A4 (z + 117)) (A4 (z + 118)) = some r33
    rw [e304, e305, e314, eA4b 115 (by decide) (by decide), eA4b 118 (by decide) (by decide)]
    exact er33) ?_)))))
  refine ok_ltg fun A5 hA5 => ?_
  have eA5 : ∀ a, a ≠ z + 117 → A5 a = A4 a := fun a h => by
    rw [hA5]
    refine ova_fr (fun p hp e => ?_)
    simp only [List.mem_cons, List.not_mem_nil, or_false] at hp
    rcases hp with rfl | rfl | rfl
    all_goals first | (dsimp only at e; omega) | (dsimp only at e ⊢; rw [e])
  have eA5h : A5 (z + 117) = r33.2 := by
    rw [hA5]
    simp [ova, a_up]
  have eA5t : A5 (z + 119) m = nI t := by
    rw [eA5 _ (by omega), hA4]
    unfold a_up
    rw [if_pos rfl, pk_us]
  refine ok_lt (ok_e x46 (ok_e l46 (ok_gdp h60 (ok_lt ?_))))
  rw [hcm, eA5t]
  refine ok_e h904' (ok_gdp hsy (ok_e (x := r43) (by
    show f12_minute r33.1 (nI t) (I3 304 yy) (I3 305 yy) (I3 314 yy) (I3 905 (z + 114)) (A5 (z + 115)) (A5 (z + 116)) (A5 (z + 117)) (A5 (z + 118)) = some r43
    rw [e304, e305, e314, hl905, eA5 _ (by omega), eA5 (z + 116) (by omega), eA5 (z + 118) (by omega), eA5h, eA4b 115 (by decide) (by decide), eA4b 116 (by decide) (by decide), eA4b 118 (by decide) (by decide)]
    exact er43) ?_))
  refine ok_ltg fun I4 hI4 => ok_ltg fun A6 hA6 => ?_
  have eI4 : I4 905 (z + 114) = nI l' := by
    rw [hI4, ← g1]
    simp [ov, i_up]
  have eA6 : ∀ a, a ≠ z + 115 → a ≠ z + 116 → a ≠ z + 117 → a ≠ z + 118 → A6 a = A5 a := fun a h1 h2 h3 h4 => by
    rw [hA6]
    refine ova_fr (fun p hp e => ?_)
    simp only [List.mem_cons, List.not_mem_nil, or_false] at hp
    rcases hp with rfl | rfl | rfl | rfl <;> (dsimp only at e; omega)
  have eA6v : A6 (z + 115) = r43.2.1 ∧ A6 (z + 116) = r43.2.2.1 ∧ A6 (z + 118) = r43.2.2.2.2 := by
    rw [hA6]
    simp [ova, a_up]
  refine ok_lt (ok_gdp hS114.1 (ok_lt (ok_e x47 (ok_e l47 (ok_gdp h60 ?_)))))
  refine ok_ltg fun A7 hA7 => ?_
  have eA7 : ∀ a, a ≠ z + 120 → A7 a = A6 a := fun a h => by
    rw [hA7]
    unfold a_up
    exact if_neg h
  refine ok_lt (ok_e (x := nI nb) (by
    show f12_burning (A7 (z + 118)) = some (nI nb)
    rw [eA7 _ (by omega), eA6v.2.2]
    exact erb) (ok_e x48 (ok_e l48 (ok_gdp h60 ?_))))
  refine ok_ltg fun A8 hA8 => ?_
  have eA8 : ∀ a, a ≠ z + 121 → A8 a = A7 a := fun a h => by
    rw [hA8]
    unfold a_up
    exact if_neg h
  refine ok_lt (ok_e x49 (ok_e l49 (ok_gdp h60 ?_)))
  refine ok_ltg fun A9 hA9 => ?_
  have eA9 : ∀ a, a ≠ z + 122 → A9 a = A8 a := fun a h => by
    rw [hA9]
    unfold a_up
    exact if_neg h
  rw [lt_is, nI_1]
  refine ok_i ?_
  -- the model's side
  refine ok_e e8 ?_
  unfold f14_spend_e8_0
  rw [show (0 : Int32) = nI 0 from rfl]
  refine ok_e er9 ?_
  refine ok_e hloop ?_
  unfold f14_spend_e10_0
  rw [lt_is, hlit]
  refine ok_e er12 ?_
  have b0 : inb (nI (4 * m)) 240 := inb_nI (by omega) (by decide)
  have b1 : inb (nI (4 * m + 1)) 240 := inb_nI (by omega) (by decide)
  have b2 : inb (nI (4 * m + 2)) 240 := inb_nI (by omega) (by decide)
  have b3 : inb (nI (4 * m + 3)) 240 := inb_nI (by omega) (by decide)
  have c0 : (nI (4 * m)).toNatClampNeg = 4 * m := nI_clamp (by omega)
  have c1 : (nI (4 * m + 1)).toNatClampNeg = 4 * m + 1 := nI_clamp (by omega)
  have c2 : (nI (4 * m + 2)).toNatClampNeg = 4 * m + 2 := nI_clamp (by omega)
  have c3 : (nI (4 * m + 3)).toNatClampNeg = 4 * m + 3 := nI_clamp (by omega)
  simp only [show (4 : Int32) = nI 4 from rfl, pk_mul, lt_is, show (1 : Int32) = nI 1 from rfl, show (2 : Int32) = nI 2 from rfl, show (3 : Int32) = nI 3 from rfl, nI_add, gd_t b0, gd_t b1, c0, c1, hlit]
  refine ok_e erb' ?_
  simp only [gd_t b2, gd_t b3, c2, c3]
  have hA9A2 : ∀ k, k < 119 → A9 (z + k) = A6 (z + k) := fun k hk => by
    rw [eA9 _ (by omega), eA8 _ (by omega), eA7 _ (by omega)]
  have hA93 : ∀ k, k < 115 → A9 (z + k) = A3 (z + k) := fun k hk => by
    rw [hA9A2 k (by omega), eA6 _ (by omega) (by omega) (by omega) (by omega), eA5 _ (by omega), eA4 _ (by omega)]
  have hI43 : ∀ f a, a ≠ z + 114 → I4 f a = I3 f a := fun f a ha => by
    rw [hI4]
    refine ov_fr (fun p hp e => ?_)
    simp only [List.mem_cons, List.not_mem_nil, or_false] at hp
    subst hp
    exact absurd e.symm ha
  have hc4 : Chg z I0 X0 A0 I4 X2 A9 := by
    subst hI4
    refine (hc3.putI (l := [(905, z + 114, r43.1)]) (by simp only [List.forall_mem_cons]; (repeat' apply And.intro); all_goals first | exact fun _ h => absurd h (List.not_mem_nil) | exact (by unfold Lo; omega) | exact Or.inl (by unfold Sc; omega) | exact Or.inl (by unfold ScM; omega) | exact Or.inr rfl | exact Or.inr trivial | exact Or.inl trivial | exact Or.inr (Or.inl trivial) | exact Or.inr (Or.inr ⟨trivial, by omega⟩) | omega) (by rfl)).trans ⟨fun _ _ _ => rfl, fun _ _ _ => rfl, fun a ha => ?_⟩
    have hne : ∀ k, 114 ≤ k → k ≤ 122 → a ≠ z + k := fun k h1 h2 e => ha (by unfold Sc; omega)
    rw [eA9 a (hne 122 (by decide) (by decide)), eA8 a (hne 121 (by decide) (by decide)), eA7 a (hne 120 (by decide) (by decide)), eA6 a (hne 115 (by decide) (by decide)) (hne 116 (by decide) (by decide)) (hne 117 (by decide) (by decide)) (hne 118 (by decide) (by decide)), eA5 a (hne 117 (by decide) (by decide)), eA4 a (hne 119 (by decide) (by decide))]
  refine ok_i ⟨(tm2, nI W', x8.1, nI kk2, I4, J2, X2, A9, B2, Q2), (x8.1, x8.2.1, x8.2.2.1, x8.2.2.2.1, v'.1, v'.2.1, v'.2.2.1, v'.2.2.2.1, v'.2.2.2.2.1, v'.2.2.2.2.2.1, v'.2.2.2.2.2.2.1, v'.2.2.2.2.2.2.2.1, rr12.1, x8.2.2.2.2.2.2.2.2.2.2.2.1, v'.2.2.2.2.2.2.2.2.1, v'.2.2.2.2.2.2.2.2.2.1, v'.2.2.2.2.2.2.2.2.2.2.1, v'.2.2.2.2.2.2.2.2.2.2.2.1, v'.2.2.2.2.2.2.2.2.2.2.2.2.1, v'.2.2.2.2.2.2.2.2.2.2.2.2.2.1, v'.2.2.2.2.2.2.2.2.2.2.2.2.2.2.1, v'.2.2.2.2.2.2.2.2.2.2.2.2.2.2.2, rr12.2.1, rr12.2.2.1, rr12.2.2.2.1, rr12.2.2.2.2, _), rfl, rfl, ⟨hc4, rfl, rfl, rfl, fun f => (hI43 f z (by omega)).trans ((eI3 f z (by omega) (by omega)).trans (hz2 f))⟩, ⟨rfl, haim2⟩, ⟨kk2, hkk2, rfl, e6⟩, ⟨W', rfl, ?_⟩, h904', ⟨l', F3, B3, V3, by omega, eI4, g2, ?_⟩, fun j hj => ?_⟩
  · exact hT3.fr (fun f => ⟨hI43 f _ (by omega), hI43 f _ (by omega)⟩) ⟨rfl, rfl⟩ (fun k h1 h2 => hA93 k (by omega))
  · dsimp only
    rw [hA9A2 115 (by decide), hA9A2 116 (by decide), hA9A2 118 (by decide), eA6v.1, eA6v.2.1, eA6v.2.2]
    exact hg3.mono (by omega)
  · have d0 : A9 (z + 119) = upd (A3 (z + 119)) m (nI t) := by
      rw [eA9 _ (by omega), eA8 _ (by omega), eA7 _ (by omega), eA6 _ (by omega) (by omega) (by omega) (by omega), eA5 _ (by omega), hA4]
      unfold a_up
      exact if_pos rfl
    have d1 : A9 (z + 120) = upd (A3 (z + 120)) m (nI l') := by
      rw [eA9 _ (by omega), eA8 _ (by omega), hA7]
      unfold a_up
      rw [if_pos rfl, eI4, eA6 _ (by omega) (by omega) (by omega) (by omega), eA5 _ (by omega), eA4 _ (by omega)]
    have d2 : A9 (z + 121) = upd (A3 (z + 121)) m (nI nb) := by
      rw [eA9 _ (by omega), hA8]
      unfold a_up
      rw [if_pos rfl, eA7 _ (by omega), eA6 _ (by omega) (by omega) (by omega) (by omega), eA5 _ (by omega), eA4 _ (by omega)]
    have d3 : A9 (z + 122) = upd (A3 (z + 122)) m (nI W') := by
      rw [hA9]
      unfold a_up
      rw [if_pos rfl, eA8 _ (by omega), eA7 _ (by omega), eA6 _ (by omega) (by omega) (by omega) (by omega), eA5 _ (by omega), eA4 _ (by omega)]
    have dr : ∀ k, 119 ≤ k → k ≤ 122 → A3 (z + k) = A (z + k) := fun k h1 h2 => (eA3 _ (by omega)).trans (hrows' k h1 h2)
    have hw1 := hT3.2.1
    dsimp only
    rw [d0, d1, d2, d3]
    by_cases q : j = m
    · subst q
      refine ⟨?_, ?_, ?_, ?_⟩
      · rw [pk_us, pk_un (by omega), pk_un (by omega), pk_un (by omega), pk_us]
      · rw [pk_us, pk_un (by omega), pk_un (by omega), pk_us, g2]
      · rw [pk_us, pk_un (by omega), pk_us]
      · rw [pk_us, pk_us, hw1]
    · obtain ⟨a0, a1, a2, a3⟩ := hrows j (by omega)
      refine ⟨?_, ?_, ?_, ?_⟩
      · rw [pk_un q, pk_un (by omega), pk_un (by omega), pk_un (by omega), pk_un (by omega), dr 119 (by decide) (by decide)]
        exact a0
      · rw [pk_un q, pk_un (by omega), pk_un (by omega), pk_un (by omega), pk_un (by omega), dr 120 (by decide) (by decide)]
        exact a1
      · rw [pk_un q, pk_un (by omega), pk_un (by omega), pk_un (by omega), pk_un (by omega), dr 121 (by decide) (by decide)]
        exact a2
      · rw [pk_un q, pk_un (by omega), pk_un (by omega), pk_un (by omega), pk_un (by omega), dr 122 (by decide) (by decide)]
        exact a3
