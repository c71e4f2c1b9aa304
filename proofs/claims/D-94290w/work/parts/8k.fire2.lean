/-! the plain law: a minute of fire -/
set_option maxRecDepth 100000
/-- two blocks of barns lie apart -/
theorem Sh9_ap {K : gK} {X : gX} {b b' : Nat} (h : Sh K X b 9 rows9) (h' : Sh K X b' 9 rows9) (hne : b ≠ b') : b + 4 < b' ∨ b' + 4 < b := by
  have k : ∀ {c : Nat}, Sh K X c 9 rows9 → (∃ t, K (c + 1) = some (.inr t)) ∧ (∃ t, K (c + 2) = some (.inr t)) ∧ (∃ t, K (c + 3) = some (.inr t)) ∧ ∃ t, K (c + 4) = some (.inr t) := fun hc => ⟨⟨_, (hc.2 0 _ rfl).1⟩, ⟨_, (hc.2 1 _ rfl).1⟩, ⟨_, (hc.2 2 _ rfl).1⟩, ⟨_, (hc.2 3 _ rfl).1⟩⟩
  have hno : ∀ {c d : Nat}, Sh K X c 9 rows9 → Sh K X d 9 rows9 → ¬ (d = c + 1 ∨ d = c + 2 ∨ d = c + 3 ∨ d = c + 4) := by
    intro c d hc hd q
    obtain ⟨⟨_, e1⟩, ⟨_, e2⟩, ⟨_, e3⟩, _, e4⟩ := k hc
    have hd1 := hd.1
    rcases q with rfl | rfl | rfl | rfl
    · rw [e1] at hd1; exact nomatch (Option.some.inj hd1)
    · rw [e2] at hd1; exact nomatch (Option.some.inj hd1)
    · rw [e3] at hd1; exact nomatch (Option.some.inj hd1)
    · rw [e4] at hd1; exact nomatch (Option.some.inj hd1)
  have h1 := hno h h'
  have h2 := hno h' h
  omega
theorem fire_min {adS : Nat → Nat} {z t yy C R i p late s : Nat} {wnd a : Int32} {I0 A0 : Nat → Nat → Int32} {w : Nat → Int32} {x : gK × gI × gJ × gX × gI × gJ × gX × Nat × Nat × Nat} {y : Int32 × Int32 × (Nat → Int32) × (Nat → Int32) × (Nat → Int32) × (Nat → Int32) × (Nat → Int32) × (Nat → Int32)} (h : FI adS z t yy C R wnd I0 A0 i (min (i + 1) 21) x y) (hs : x.2.2.2.2.2.2.1 (z + 90) (i % 21) = some s) (w9 : w 9 = nI C) (w10 : w 10 = nI R) (w11 : w 11 = wnd) (hC : C ≤ 8) (hR : R ≤ 8) (ht : t ≤ 999) (ha : Aim C R a) (hi : i < p) (hp : p ≤ 60) (hlate : late ≤ 20) :
    Ok (w1_fire_j121 z (nI t) a (nI late) (nI i) x.1 x.2.1 x.2.2.1 x.2.2.2.1 x.2.2.2.2.1 x.2.2.2.2.2.1 x.2.2.2.2.2.2.1 x.2.2.2.2.2.2.2.1 x.2.2.2.2.2.2.2.2.1 x.2.2.2.2.2.2.2.2.2) (fun o => Ok (f14_fires_s2 (nI p) (nI t) a (nI late) w (nI i) y.1 y.2.1 y.2.2.1 y.2.2.2.1 y.2.2.2.2.1 y.2.2.2.2.2.1 y.2.2.2.2.2.2.1 y.2.2.2.2.2.2.2) (fun q => ∃ (x' : gK × gI × gJ × gX × gI × gJ × gX × Nat × Nat × Nat) (y' : Int32 × Int32 × (Nat → Int32) × (Nat → Int32) × (Nat → Int32) × (Nat → Int32) × (Nat → Int32) × (Nat → Int32)), o = .inl (nI (i + 1), x') ∧ q = .inl (nI (i + 1), y') ∧ FI adS z t yy C R wnd I0 A0 (i + 1) (min (i + 1) 21) x' y')) := by
  obtain ⟨K, I, J, X, A, B, Q, n, u, v⟩ := x
  obtain ⟨y1, y2, yf, yb, yw, yh, yfw, ybw⟩ := y
  obtain ⟨hi0, ⟨hu, hv⟩, ⟨h38, h904, hky, e4, e5, e14⟩, ⟨hI, hA⟩, ⟨l, F, BB, V, hl, h905, hl14, hg⟩, h39, hseen⟩ := h
  dsimp only at hs hi0 hu hv h38 h904 hky e4 e5 e14 hI hA h905 hl14 hg h39 hseen ⊢
  subst hl14
  have hIS := hi0.2.1
  have hS0 := hIS.1.1
  have hKz := hS0.1
  have hx := hIS.o
  obtain ⟨-, -, -, -, ⟨hS80, hX35⟩, -, -, -, -, hyards, hq3, hq4⟩ := hx
  obtain ⟨x37, l37⟩ := hS0.len 15 rfl
  have hsy := hyards yy hky
  have h21 : ¬ (21 : Int32) = 0 := by decide
  have hr : ∀ k, k < 100 → nI k - nI k / (21 : Int32) * (21 : Int32) = nI (k % 21) := fun k hk => by
    rw [show (21 : Int32) = nI 21 from rfl]
    exact pk_rem (by omega) (by decide) (by decide)
  have hmd : ∀ k, k % 21 < 21 := fun k => Nat.mod_lt _ (by decide)
  have hin : ∀ k, inb (nI (k % 21)) 21 := fun k => inb_nI (hmd k) (by decide)
  have hc : ∀ k, (nI (k % 21)).toNatClampNeg = k % 21 := fun k => nI_clamp (by have := hmd k; omega)
  obtain ⟨hs172, hsh⟩ := hq3 _ s (hmd i) hs
  have hap : s + 4 < z + 80 ∨ z + 80 + 4 < s := by omega
  have hti : t * i ≤ 999 * 60 := Nat.mul_le_mul ht (by omega)
  obtain ⟨r60, e60, eb1, eb2⟩ := be_ok hg hC hR (I 905 (z + 80)) (I 905 s) (A (s + 1)) (A (s + 2)) (A (s + 4))
  unfold w1_fire_j121
  refine ok_gdp hKz (ok_lt (ok_gd h21 (ok_lt ?_)))
  rw [hr i (by omega)]
  refine ok_e x37 (ok_e l37 (ok_gdp (hin i) (ok_lt (ok_lt ?_))))
  rw [hc i]
  refine ok_e hs (ok_e hX35 (ok_gdp (by omega) (ok_e h904 (ok_gdp hsh (ok_gdp hS80 (ok_gdp hsy (ok_gdp hap (ok_e (x := r60) e60 ?_))))))))
  refine ok_ltg fun I1 hI1 => ok_ltg fun X1 hX1 => ok_ltg fun A1 hA1 => ?_
  have hX1f : ∀ f, f ≠ 904 → X1 f = X f := fun f hf => by
    rw [hX1]
    exact ov_no (by simp [ovn]; omega)
  have hX1o : ∀ b, b ≠ s → X1 904 b = X 904 b := fun b hb => by
    rw [hX1]
    simp [ov, i_up, hb]
  have hX1s : X1 904 s = some yy := by
    rw [hX1]
    simp [ov, i_up]
  have hI1f : ∀ f b, (f ≠ 905 ∨ b ≠ s) → I1 f b = I f b := fun f b hb => by
    rw [hI1]
    refine ov_fr (fun p hp e e2 => ?_)
    simp only [List.mem_cons, List.not_mem_nil, or_false] at hp
    subst hp
    dsimp only at e e2
    omega
  have hA1f : ∀ b, b ≠ s + 1 → b ≠ s + 2 → b ≠ s + 4 → A1 b = A b := fun b q1 q2 q4 => by
    rw [hA1]
    refine ova_fr (fun p hp e => ?_)
    simp only [List.mem_cons, List.not_mem_nil, or_false] at hp
    rcases hp with rfl | rfl | rfl | rfl | rfl | rfl
    · dsimp only at e ⊢; rw [e]
    · dsimp only at e ⊢; rw [e]
    · dsimp only at e ⊢; rw [e]
    · exact absurd e.symm q1
    · exact absurd e.symm q2
    · exact absurd e.symm q4
  have hA1s : A1 (s + 1) = r60.2.1 ∧ A1 (s + 4) = r60.2.2.2 := by
    rw [hA1]
    have n1 : ¬ s + 1 = z + 80 + 1 := by omega
    have n2 : ¬ s + 1 = z + 80 + 2 := by omega
    have n3 : ¬ s + 1 = z + 80 + 4 := by omega
    have n4 : ¬ s + 4 = z + 80 + 1 := by omega
    have n5 : ¬ s + 4 = z + 80 + 2 := by omega
    have n6 : ¬ s + 4 = z + 80 + 4 := by omega
    simp [ova, a_up, n1, n2, n3, n4, n5, n6, show ¬ s = z + 80 by omega, show ¬ s = z + 81 by omega, show ¬ s = z + 83 by omega, show ¬ s = z + 77 by omega, show ¬ s = z + 78 by omega]
  have hx37' : X1 37 z = some (z + 90) := by rw [hX1f 37 (by decide)]; exact x37
  have hX35' : X1 35 z = some (z + 80) := by rw [hX1f 35 (by decide)]; exact hX35
  -- which minute is seen
  have hj : ∃ j, j = i - late ∧ j ≤ i ∧ i ≤ j + 20 := ⟨i - late, rfl, by omega, by omega⟩
  obtain ⟨j, hj1, hj2, hj3⟩ := hj
  have hv73 : (if (0 : Int32) < nI i - nI late then nI i - nI late else (0 : Int32)) = nI j := by
    by_cases q : late ≤ i
    · rw [pk_sub q]
      by_cases q0 : i - late = 0
      · rw [show j = 0 by omega, q0, if_neg (by decide)]
        rfl
      · rw [if_pos (show (0 : Int32) < nI (i - late) from nI_lt (a := 0) (by omega) (by omega)), hj1]
    · have hneg := pk_sneg (a := i) (b := late) (by omega) (by omega)
      rw [if_neg (fun h => absurd (Int32.lt_trans h hneg) (Int32.lt_irrefl)), show j = 0 by omega]
      rfl
  -- the copy of the model
  obtain ⟨zc, ezc, hz1, hz2⟩ := copy_ok (f := yf) (b := yb) (fw := yfw) (bw := ybw) w9 w10 hC hR (show i < 60 by omega)
  have hgm : Gm C R F BB (64 * i) 3904 zc.1 zc.2 := by
    refine ⟨by omega, by decide, fun r c hr hc => ?_⟩
    obtain ⟨⟨hF, hB, hV⟩, ⟨f1, f2⟩, ⟨f3, f4⟩, -⟩ := hg.1 r c hr hc
    obtain ⟨a1, a2⟩ := hz1 (C * r + c) (cell_lt hC hR hr hc).1
    exact ⟨hF, hB, a1.trans f2, a2.trans f4⟩
  have hgold : ∀ {j Fs Bs}, j < i → Gm C R Fs Bs (64 * j) 3904 yfw ybw → Gm C R Fs Bs (64 * j) 3904 zc.1 zc.2 := by
    intro j Fs Bs hji hm
    refine ⟨hm.1, hm.2.1, fun r c hr hc => ?_⟩
    obtain ⟨a1, a2, a3, a4⟩ := hm.2.2 r c hr hc
    have hlt := (cell_lt hC hR hr hc).2
    obtain ⟨b1, b2⟩ := hz2 (64 * j + (C * r + c)) (by omega)
    exact ⟨a1, a2, b1.trans a3, b2.trans a4⟩
  have hseen2 : ∃ (s2 : Nat) (Fs Bs : Nat → Nat → Nat), Q (z + 90) (j % 21) = some s2 ∧ X1 904 s2 = some yy ∧ Gp C R Fs Bs (A1 (s2 + 1)) (A1 (s2 + 4)) ∧ Gm C R Fs Bs (64 * j) 3904 zc.1 zc.2 := by
    by_cases q : j = i
    · subst q
      refine ⟨s, F, BB, hs, hX1s, ?_, hgm⟩
      rw [hA1s.1, hA1s.2]
      exact eb2.gp
    · obtain ⟨s2, Fs, Bs, a1, a2, a3, a4⟩ := hseen j (by omega) (by omega)
      have hne : s2 ≠ s := fun e => by
        have := hq4 _ _ s2 (hmd j) (hmd i) a1 (e ▸ hs)
        omega
      have hap2 := Sh9_ap (hq3 _ s2 (hmd j) a1).2 hsh hne
      refine ⟨s2, Fs, Bs, a1, ?_, ?_, hgold (by omega) a4⟩
      · rw [hX1o s2 hne]
        exact a2
      · rw [hA1f (s2 + 1) (by omega) (by omega) (by omega), hA1f (s2 + 4) (by omega) (by omega) (by omega)]
        exact a3
  obtain ⟨s2, Fs, Bs, hs2, hx2, hgp2, hgm2⟩ := hseen2
  obtain ⟨hs2172, hsh2⟩ := hq3 _ s2 (hmd j) hs2
  have hshX : ∀ {b : Nat}, Sh K X b 9 rows9 → Sh K X1 b 9 rows9 := fun hb => by
    rw [hX1]
    exact Sh.ov (by rfl) hb
  have hsyX : Sh K X1 yy 3 rows3 := by
    rw [hX1]
    exact Sh.ov (by rfl) hsy
  have hI1y : I1 304 yy = nI C ∧ I1 305 yy = nI R ∧ I1 314 yy = wnd := by
    rw [hI1f 304 yy (Or.inl (by decide)), hI1f 305 yy (Or.inl (by decide)), hI1f 314 yy (Or.inl (by decide))]
    exact ⟨e4, e5, e14⟩
  have h82 : A1 (z + 81) = A (z + 81) ∧ A1 (z + 82) = A (z + 82) ∧ A1 (z + 84) = A (z + 84) := ⟨hA1f _ (by omega) (by omega) (by omega), hA1f _ (by omega) (by omega) (by omega), hA1f _ (by omega) (by omega) (by omega)⟩
  have h905' : I1 905 (z + 80) = nI l := by
    rw [hI1f 905 (z + 80) (Or.inr (by omega))]
    exact h905
  obtain ⟨r81, e81, hbody⟩ := fires_body (i := i) (oat := y2) (ht1 := yh) (ht14 := yh) (hts := A1 (s2 + 3)) hg hgp2 hgm2 w9 w10 w11 hC hR (show t * i + t < 2 ^ 29 by omega) (show l < 2 ^ 29 by omega) ha
  refine ok_lt (ok_lt (ok_lt (ok_lt (ok_gd h21 (ok_lt ?_)))))
  rw [hv73, hr j (by omega)]
  refine ok_e hx37' (ok_e l37 (ok_gdp (hin j) (ok_lt ?_)))
  rw [hc j]
  refine ok_e hs2 (ok_e hx2 (ok_gdp (hshX hsh2) (ok_gdp hsyX (ok_e (x := r81) (by rw [hI1y.1, hI1y.2.1, hI1y.2.2]; exact e81) ?_))))
  refine ok_ltg fun A2 hA2 => ?_
  have hA2f : ∀ b, b ≠ s2 + 3 → A2 b = A1 b := fun b q => by
    rw [hA2]
    refine ova_fr (fun p hp e => ?_)
    simp only [List.mem_cons, List.not_mem_nil, or_false] at hp
    rcases hp with rfl | rfl | rfl
    · dsimp only at e ⊢; rw [e]
    · exact absurd e.symm q
    · dsimp only at e ⊢; rw [e]
  have h904' : X1 904 (z + 80) = some yy := by rw [hX1o _ (by omega)]; exact h904
  obtain ⟨r87, e87, o, eo, yn, rfl, ⟨l', hl', g1, g2⟩, ⟨F', B', V', g3⟩, ⟨nb, hnb, enb, eoat⟩, g5, g6⟩ := hbody (A2 (z + 83))
  refine ok_e hX35' (ok_e h904' (ok_gdp (hshX hS80) (ok_gdp hsyX (ok_e (x := r87) (by rw [hI1y.1, hI1y.2.1, hI1y.2.2, h905', hA2f (z + 80 + 1) (by omega), hA2f (z + 80 + 2) (by omega), hA2f (z + 80 + 4) (by omega)]; rw [show A1 (z + 80 + 1) = A (z + 81) from h82.1, show A1 (z + 80 + 2) = A (z + 82) from h82.2.1, show A1 (z + 80 + 4) = A (z + 84) from h82.2.2]; exact e87) ?_))))
  refine ok_ltg fun I2 hI2 => ok_ltg fun A3 hA3 => ?_
  have hI2f : ∀ f b, (f ≠ 905 ∨ (b ≠ s ∧ b ≠ z + 80)) → I2 f b = I f b := fun f b hb => by
    rw [← hI1f f b (by omega), hI2]
    refine ov_fr (fun p hp e e2 => ?_)
    simp only [List.mem_cons, List.not_mem_nil, or_false] at hp
    subst hp
    dsimp only at e e2
    omega
  have hA3f : ∀ b, b ≠ z + 81 → b ≠ z + 82 → b ≠ z + 83 → b ≠ z + 84 → A3 b = A2 b := fun b q1 q2 q3 q4 => by
    rw [hA3]
    refine ova_fr (fun p hp e => ?_)
    simp only [List.mem_cons, List.not_mem_nil, or_false] at hp
    rcases hp with rfl | rfl | rfl | rfl
    · exact absurd e.symm q1
    · exact absurd e.symm q2
    · exact absurd e.symm q3
    · exact absurd e.symm q4
  have hA3z : A3 (z + 81) = r87.2.1 ∧ A3 (z + 82) = r87.2.2.1 ∧ A3 (z + 84) = r87.2.2.2.2 := by
    rw [hA3]
    simp [ova, a_up]
  have h905n : I2 905 (z + 80) = nI l' := by
    rw [hI2, ← g1]
    simp [ov, i_up]
  have h39' : I2 39 z = y2 := by
    rw [hI2f 39 z (Or.inl (by decide))]
    exact h39
  -- what holds behind the minute, but for the minute when all is out
  have hfin : ∀ I3 : gI, (∀ f b, ¬ (f = 39 ∧ b = z) → I3 f b = I2 f b) → I3 39 z = yn.2.1 → FI adS z t yy C R wnd I0 A0 (i + 1) (min (i + 1) 21) (K, I3, J, X1, A3, B, Q, n, u, v) yn := by
    intro I3 hI3 h39n
    have hbs : BarO z Q s := Or.inr ⟨_, hmd i, hs⟩
    have hbs2 : BarO z Q s2 := Or.inr ⟨_, hmd j, hs2⟩
    have hbz : BarO z Q (z + 80) := Or.inl rfl
    have hI3' : ∀ f b, ¬ (f = 905 ∧ BarO z Q b) → ¬ (f = 39 ∧ b = z) → I3 f b = I f b := fun f b q1 q2 => by
      rw [hI3 f b q2]
      refine hI2f f b ?_
      by_cases q : f = 905
      · refine Or.inr ⟨fun e => q1 ⟨q, e ▸ hbs⟩, fun e => q1 ⟨q, e ▸ hbz⟩⟩
      · exact Or.inl q
    have hA3' : ∀ b, ¬ BarA z Q b → A3 b = A b := fun b q => by
      have q1 : ∀ d, 1 ≤ d → d ≤ 4 → b ≠ z + 80 + d := fun d h1 h2 e => q ⟨z + 80, hbz, by omega, by omega⟩
      have q2 : ∀ d, 1 ≤ d → d ≤ 4 → b ≠ s + d := fun d h1 h2 e => q ⟨s, hbs, by omega, by omega⟩
      have q3 : b ≠ s2 + 3 := fun e => q ⟨s2, hbs2, by omega, by omega⟩
      rw [hA3f b (q1 1 (by omega) (by omega)) (q1 2 (by omega) (by omega)) (q1 3 (by omega) (by omega)) (q1 4 (by omega) (by omega)), hA2f b q3, hA1f b (q2 1 (by omega) (by omega)) (q2 2 (by omega) (by omega)) (q2 4 (by omega) (by omega))]
    have hlow : ∀ k, k < 172 → (k < 81 ∨ 84 < k) → A3 (z + k) = A (z + k) := fun k hk hk2 => hA3' _ fun h => by have := h.low hIS hk; omega
    have hlowI : ∀ f k, k < 172 → k ≠ 80 → ¬ (f = 39 ∧ k = 0) → I3 f (z + k) = I f (z + k) := fun f k hk hk2 hk3 => hI3' f _ (fun h => by have := h.2.low hIS hk; omega) (by omega)
    have hne80 : yy ≠ z + 80 := fun e => by
      rw [e, hS80.1] at hky
      exact nomatch (Option.some.inj hky)
    have hyb : ∀ f, I3 f yy = I f yy := fun f => hI3' f yy (fun h => by
      rcases h.2 with e | ⟨k, hk, e⟩
      · exact hne80 e
      · rw [(hq3 k yy hk e).2.1] at hky
        exact nomatch (Option.some.inj hky)) (fun h => by rw [h.2, hKz] at hky; exact nomatch (Option.some.inj hky))
    refine ⟨hi0.bar (by unfold rsf; simp [ov, i_up]) (fun f b q1 q2 => ?_) (fun f b q => ?_) hA3', ⟨by dsimp only; omega, by dsimp only; omega⟩, ⟨?_, h904', hky, (hyb _).trans e4, (hyb _).trans e5, (hyb _).trans e14⟩, ⟨fun f => (hlowI f 126 (by decide) (by decide) (by omega)).trans (hI f), fun k h1 h2 => (hlow k h2 (by omega)).trans (hA k h1 h2)⟩, ⟨l', F', B', V', by omega, ?_, g2, ?_⟩, h39n, fun j' hj' hj'' => ?_⟩
    · by_cases r : (f = 38 ∧ b = z) ∨ (f = 1176 ∧ b = z + 126) ∨ (f = 1175 ∧ b = z + 126)
      · rcases r with ⟨rfl, rfl⟩ | ⟨rfl, rfl⟩ | ⟨rfl, rfl⟩ <;> simp [rsf, ov, i_up]
      · rw [rsf_at (by omega) (by omega) (by omega), rsf_at (by omega) (by omega) (by omega)]
        exact hI3' f b q1 q2
    · by_cases r : f = 904
      · subst r
        refine hX1o b fun e => q ⟨rfl, e ▸ hbs⟩
      · show X1 f b = X f b
        rw [hX1f f r]
    · exact (hlowI 38 0 (by decide) (by decide) (by omega)).trans h38
    · show I3 905 (z + 80) = nI l'
      rw [hI3 905 _ (by omega)]
      exact h905n
    · dsimp only
      rw [hA3z.1, hA3z.2.1, hA3z.2.2, Nat.mul_succ]
      exact g3
    · dsimp only
      rw [g5, g6]
      by_cases q : j' = i
      · subst q
        refine ⟨s, F, BB, hs, hX1s, ?_, hgm⟩
        have e1 : A3 (s + 1) = r60.2.1 := by
          rw [hA3f _ (by omega) (by omega) (by omega) (by omega), hA2f _ (fun e => by
            by_cases q : s2 = s
            · omega
            · have := Sh9_ap hsh2 hsh q
              omega)]
          exact hA1s.1
        have e4' : A3 (s + 4) = r60.2.2.2 := by
          rw [hA3f _ (by omega) (by omega) (by omega) (by omega), hA2f _ (fun e => by
            by_cases q : s2 = s
            · omega
            · have := Sh9_ap hsh2 hsh q
              omega)]
          exact hA1s.2
        rw [e1, e4']
        exact eb2.gp
      · obtain ⟨s3, F3, B3, a1, a2, a3, a4⟩ := hseen j' (by omega) (by omega)
        have hne : s3 ≠ s := fun e => by
          have := hq4 _ _ s3 (hmd j') (hmd i) a1 (e ▸ hs)
          omega
        obtain ⟨hs3172, hsh3⟩ := hq3 _ s3 (hmd j') a1
        have hap2 := Sh9_ap hsh3 hsh hne
        refine ⟨s3, F3, B3, a1, ?_, ?_, hgold (by omega) a4⟩
        · rw [hX1o s3 hne]
          exact a2
        · have e1 : A3 (s3 + 1) = A (s3 + 1) := by
            rw [hA3f _ (by omega) (by omega) (by omega) (by omega), hA2f _ (fun e => by
              by_cases q : s2 = s3
              · omega
              · have := Sh9_ap hsh2 hsh3 q
                omega), hA1f _ (by omega) (by omega) (by omega)]
          have e4' : A3 (s3 + 4) = A (s3 + 4) := by
            rw [hA3f _ (by omega) (by omega) (by omega) (by omega), hA2f _ (fun e => by
              by_cases q : s2 = s3
              · omega
              · have := Sh9_ap hsh2 hsh3 q
                omega), hA1f _ (by omega) (by omega) (by omega)]
          rw [e1, e4']
          exact a3
  -- the model's step
  have hmod : f14_fires_s2 (nI p) (nI t) a (nI late) w (nI i) (nI l) y2 yf yb yw yh yfw ybw = some (.inl (nI (i + 1), yn)) := by
    unfold f14_fires_s2 f14_fires_e4_0
    rw [if_neg (nI_ge hi (by omega)), ezc, bind_is]
    by_cases q : late ≤ i
    · rw [if_pos (nI_le q (by omega)), lt_is, pk_sub q, ← hj1]
      exact eo
    · rw [if_neg (nI_ge (show i < late by omega) (by omega)), show (0 : Int32) = nI j by rw [show j = 0 by omega]; rfl]
      exact eo
  refine ok_lt ?_
  rw [h39']
  have hburn : f12_burning (A3 (z + 80 + 4)) = some (nI nb) := by
    rw [show A3 (z + 80 + 4) = r87.2.2.2.2 from hA3z.2.2]
    exact enb
  by_cases q : y2 = -1
  · rw [if_pos q]
    refine ok_e hburn ?_
    rw [if_pos q] at eoat
    by_cases q2 : nb = 0
    · rw [if_pos (show nI nb = 0 by rw [q2]; rfl), lt_is]
      rw [if_pos q2] at eoat
      refine ok_lt ?_
      unfold w1_fire_j193
      rw [lt_is, nI_1]
      refine ok_i (ok_eq hmod ⟨(K, i_up I2 39 z (nI (i + 1)), J, X1, A3, B, Q, n, u, v), yn, rfl, rfl, hfin _ (fun f b h => ?_) ?_⟩)
      · by_cases r : f = 39
        · have r2 : ¬ b = z := fun e => h ⟨r, e⟩
          simp [i_up, r, r2]
        · simp [i_up, r]
      · rw [eoat]
        simp [i_up]
    · rw [if_neg (show ¬ nI nb = 0 from nI_ne0 (by omega) (by omega))]
      rw [if_neg q2] at eoat
      unfold w1_fire_j193
      rw [lt_is, nI_1]
      exact ok_i (ok_eq hmod ⟨(K, I2, J, X1, A3, B, Q, n, u, v), yn, rfl, rfl, hfin _ (fun f b _ => rfl) (by rw [eoat, h39', q])⟩)
  · rw [if_neg q]
    rw [if_neg q] at eoat
    unfold w1_fire_j193
    rw [lt_is, nI_1]
    exact ok_i (ok_eq hmod ⟨(K, I2, J, X1, A3, B, Q, n, u, v), yn, rfl, rfl, hfin _ (fun f b _ => rfl) (by rw [eoat, h39'])⟩)
