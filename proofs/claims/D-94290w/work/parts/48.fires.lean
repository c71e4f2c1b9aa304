/-! the plain law: fires, minute by minute -/
set_option maxRecDepth 100000
theorem copy_ok {C R i : Nat} {f b fw bw w : Nat → Int32} (w9 : w 9 = nI C) (w10 : w 10 = nI R) (hC : C ≤ 8) (hR : R ≤ 8) (hi : i < 60) : Ok (whl (fun (s4 : Int32 × (Nat → Int32) × (Nat → Int32)) => f14_fires_s4 w (nI i) f b s4.1 s4.2.1 s4.2.2) FU ((0 : Int32), fw, bw)) (fun z => (∀ k, k < C * R → z.1 (64 * i + k) = f k ∧ z.2 (64 * i + k) = b k) ∧ ∀ q, (q < 64 * i ∨ 64 * i + 64 ≤ q) → z.1 q = fw q ∧ z.2 q = bw q) := by
  have hCR : C * R ≤ 8 * 8 := Nat.mul_le_mul hC hR
  refine for_ok (fun k (x : (Nat → Int32) × (Nat → Int32)) => (nI k, x)) (fun k z => (∀ q, q < k → z.1 (64 * i + q) = f q ∧ z.2 (64 * i + q) = b q) ∧ ∀ q, (q < 64 * i ∨ 64 * i + 64 ≤ q) → z.1 q = fw q ∧ z.2 q = bw q) (C * R) (by omega) ⟨fun q h => absurd h (Nat.not_lt_zero _), fun q _ => ⟨rfl, rfl⟩⟩ ?_ ?_
  · rintro k ⟨x1, x2⟩ hk ⟨hI1, hI2⟩
    dsimp only at hI1 hI2 ⊢
    unfold f14_fires_s4
    rw [cells_is w9 w10, bind_is, if_neg (nI_ge hk (by omega)), show (64 : Int32) = nI 64 from rfl]
    simp only [lt_is, pk_mul, nI_add, nI_1]
    rw [gd_t (inb_nI (by omega) (by decide)), gd_t (inb_nI (by omega) (by decide)), gd_t (inb_nI (by omega) (by decide)), gd_t (inb_nI (by omega) (by decide)), nI_clamp (show 64 * i + k < 2 ^ 31 by omega), nI_clamp (show k < 2 ^ 31 by omega)]
    refine ok_i ⟨_, rfl, fun q hq => ?_, fun q hq => ?_⟩
    · dsimp only
      by_cases e : q = k
      · subst e
        rw [pk_us, pk_us]
        exact ⟨rfl, rfl⟩
      · rw [pk_un (by omega), pk_un (by omega)]
        exact hI1 q (by omega)
    · dsimp only
      rw [pk_un (by omega), pk_un (by omega)]
      exact hI2 q hq
  · rintro ⟨x1, x2⟩ ⟨hI1, hI2⟩
    dsimp only at hI1 hI2 ⊢
    unfold f14_fires_s4
    rw [cells_is w9 w10, bind_is, if_pos (nI_le (Nat.le_refl _) (by omega))]
    exact ok_i ⟨_, rfl, hI1, hI2⟩
/-- a minute of a fire, by an aim seen at minute j -/
theorem fires_body {C R Z l t i j : Nat} {wnd oat a : Int32} {F B V Fs Bs : Nat → Nat → Nat} {f1 v1 b1 f14 v14 b14 fs bs ht1 hts ht14 w : Nat → Int32} {z : (Nat → Int32) × (Nat → Int32)} (h : Gr C R Z F B V f1 v1 b1 f14 v14 b14) (hs : Gp C R Fs Bs fs bs) (hm : Gm C R Fs Bs (64 * j) 3904 z.1 z.2) (w9 : w 9 = nI C) (w10 : w 10 = nI R) (w11 : w 11 = wnd) (hC : C ≤ 8) (hR : R ≤ 8) (hZ : Z + t < 2 ^ 29) (hl : l < 2 ^ 29) (ha : Aim C R a) :
    Ok (f12_aimed a (nI C) (nI R) wnd fs hts bs) (fun x => ∀ ht, Ok (f12_minute x.1 (nI t) (nI C) (nI R) wnd (nI l) f1 v1 ht b1) (fun m => Ok (f14_fires_j99 (nI t) a w (nI i) (nI l) oat f14 b14 v14 ht14 z (nI j)) (fun o => ∃ y : Int32 × Int32 × (Nat → Int32) × (Nat → Int32) × (Nat → Int32) × (Nat → Int32) × (Nat → Int32) × (Nat → Int32), o = .inl (nI (i + 1), y) ∧ (∃ l', l' ≤ l + 64 ∧ m.1 = nI l' ∧ y.1 = nI l') ∧ (∃ F' B' V', Gr C R (Z + t) F' B' V' m.2.1 m.2.2.1 m.2.2.2.2 y.2.2.1 y.2.2.2.2.1 y.2.2.2.1) ∧ (∃ n : Nat, n ≤ 64 ∧ f12_burning m.2.2.2.2 = some (nI n) ∧ y.2.1 = if oat = -1 then (if n = 0 then nI (i + 1) else -1) else oat) ∧ y.2.2.2.2.2.2.1 = z.1 ∧ y.2.2.2.2.2.2.2 = z.2))) := by
  refine ok_w (aimed_eq hs hm w9 w10 w11 hC hR ha hts) ?_
  rintro x ⟨ca, eca, hcel⟩ ht
  refine ok_w (minute_eq h w9 w10 w11 hC hR hZ hl hcel ht ht14) ?_
  rintro m ⟨y, ey, hlost, F', B', V', hg⟩
  obtain ⟨n, en, n', en', k, hk, rfl, rfl⟩ := burning_eq hg w9 w10 hC hR
  unfold f14_fires_j99 f14_fires_j147
  rw [show (64 : Int32) = nI 64 from rfl, pk_mul]
  simp only [lt_is]
  rw [eca, bind_is, ey, bind_is, nI_1]
  by_cases q : oat = -1
  · rw [if_pos q, en', bind_is]
    by_cases q2 : k = 0
    · rw [if_pos (show nI k = 0 by rw [q2]; rfl)]
      exact ok_i ⟨_, rfl, hlost, ⟨F', B', V', hg⟩, ⟨k, hk, en, by rw [if_pos q, if_pos q2]⟩, rfl, rfl⟩
    · rw [if_neg (show ¬ nI k = 0 from nI_ne0 (by omega) (by omega))]
      exact ok_i ⟨_, rfl, hlost, ⟨F', B', V', hg⟩, ⟨k, hk, en, by rw [if_pos q, if_neg q2, q]⟩, rfl, rfl⟩
  · rw [if_neg q]
    exact ok_i ⟨_, rfl, hlost, ⟨F', B', V', hg⟩, ⟨k, hk, en, by rw [if_neg q]⟩, rfl, rfl⟩
/-- the same, nothing being late -/
theorem fires_step {C R Z l t i p : Nat} {wnd oat a : Int32} {F B V : Nat → Nat → Nat} {f1 v1 b1 f14 v14 b14 ht1 ht14 fw bw w : Nat → Int32} (h : Gr C R Z F B V f1 v1 b1 f14 v14 b14) (w9 : w 9 = nI C) (w10 : w 10 = nI R) (w11 : w 11 = wnd) (hC : C ≤ 8) (hR : R ≤ 8) (hZ : Z + t < 2 ^ 29) (hl : l < 2 ^ 29) (ha : Aim C R a) (hi : i < p) (hp : p ≤ 60) :
    Ok (f12_aimed a (nI C) (nI R) wnd f1 ht1 b1) (fun x => Ok (f12_minute x.1 (nI t) (nI C) (nI R) wnd (nI l) f1 v1 x.2 b1) (fun m => Ok (f14_fires_s2 (nI p) (nI t) a 0 w (nI i) (nI l) oat f14 b14 v14 ht14 fw bw) (fun o => ∃ y : Int32 × Int32 × (Nat → Int32) × (Nat → Int32) × (Nat → Int32) × (Nat → Int32) × (Nat → Int32) × (Nat → Int32), o = .inl (nI (i + 1), y) ∧ (∃ l', l' ≤ l + 64 ∧ m.1 = nI l' ∧ y.1 = nI l') ∧ (∃ F' B' V', Gr C R (Z + t) F' B' V' m.2.1 m.2.2.1 m.2.2.2.2 y.2.2.1 y.2.2.2.2.1 y.2.2.2.1) ∧ (∃ n : Nat, n ≤ 64 ∧ f12_burning m.2.2.2.2 = some (nI n) ∧ y.2.1 = if oat = -1 then (if n = 0 then nI (i + 1) else -1) else oat)))) := by
  obtain ⟨z, ez, hz, -⟩ := copy_ok (f := f14) (b := b14) (fw := fw) (bw := bw) w9 w10 hC hR (show i < 60 by omega)
  have hm : Gm C R F B (64 * i) 3904 z.1 z.2 := by
    refine ⟨by omega, by decide, fun r c hr hc => ?_⟩
    obtain ⟨⟨hF, hB, hV⟩, ⟨e1, e2⟩, ⟨e3, e4⟩, -⟩ := h.1 r c hr hc
    obtain ⟨a1, a2⟩ := hz (C * r + c) (cell_lt hC hR hr hc).1
    exact ⟨hF, hB, a1.trans e2, a2.trans e4⟩
  refine ok_w (fires_body (i := i) (oat := oat) (ht1 := ht1) (ht14 := ht14) (hts := ht1) h h.gp hm w9 w10 w11 hC hR hZ hl ha) ?_
  intro x hx
  refine ok_w (hx x.2) ?_
  rintro m ⟨o, eo, y, rfl, h1, h2, h3, -⟩
  refine ok_eq ?_ ⟨y, rfl, h1, h2, h3⟩
  unfold f14_fires_s2 f14_fires_e4_0
  rw [if_neg (nI_ge hi (by omega)), ez, bind_is, if_pos (show (0 : Int32) ≤ nI i from nI_le (a := 0) (Nat.zero_le _) (by omega)), lt_is, show nI i - (0 : Int32) = nI i from by rw [z_0, pk_sub (Nat.zero_le _)]; rfl]
  exact eo
theorem fires_end {p i : Nat} {wnd oat a t l : Int32} {f14 v14 b14 ht14 fw bw w : Nat → Int32} (hi : p ≤ i) (hp : i ≤ 60) : f14_fires_s2 (nI p) t a 0 w (nI i) l oat f14 b14 v14 ht14 fw bw = some (.inr (l, oat, f14, b14, v14, ht14, fw, bw)) := by
  unfold f14_fires_s2
  rw [if_pos (nI_le hi (by omega))]
/-- half an hour by the aim 1: what is lost -/
theorem half_eq {C R t : Nat} {wnd oat : Int32} {F B : Nat → Nat → Nat} {f1 v1 b1 f14 v14 b14 ht1 ht14 fw bw w : Nat → Int32} (h : Gr C R 0 F B (fun _ _ => 0) f1 v1 b1 f14 v14 b14) (w9 : w 9 = nI C) (w10 : w 10 = nI R) (w11 : w 11 = wnd) (hC : C ≤ 8) (hR : R ≤ 8) (ht : t ≤ 999) :
    Ok (whl (fun (s2 : Int32 × Int32 × (Nat → Int32) × (Nat → Int32) × (Nat → Int32) × (Nat → Int32)) => f1_lostBy_s2 (nI t) (nI C) (nI R) wnd s2.1 s2.2.1 s2.2.2.1 s2.2.2.2.1 s2.2.2.2.2.1 s2.2.2.2.2.2) FU ((0 : Int32), nI 0, f1, v1, ht1, b1)) (fun x => Ok (f14_fires 30 (nI t) 1 0 (nI 0) oat w f14 b14 v14 ht14 fw bw) (fun y => ∃ l, l ≤ 2000 ∧ x.1 = nI l ∧ y.1 = nI l)) := by
  obtain ⟨n, en, n', en', k, hk, rfl, rfl⟩ := burning_eq h w9 w10 hC hR
  have key : ∀ o : Int32, Ok (whl (fun (s2 : Int32 × Int32 × (Nat → Int32) × (Nat → Int32) × (Nat → Int32) × (Nat → Int32)) => f1_lostBy_s2 (nI t) (nI C) (nI R) wnd s2.1 s2.2.1 s2.2.2.1 s2.2.2.2.1 s2.2.2.2.2.1 s2.2.2.2.2.2) FU ((0 : Int32), nI 0, f1, v1, ht1, b1)) (fun x => Ok (f14_fires_j13 30 (nI t) 1 0 (nI 0) w f14 b14 v14 ht14 fw bw o) (fun y => ∃ l, l ≤ 2000 ∧ x.1 = nI l ∧ y.1 = nI l)) := by
    intro o
    unfold f14_fires_j13
    refine ok_w (for2_ok (P := fun (x : Int32 × (Nat → Int32) × (Nat → Int32) × (Nat → Int32) × (Nat → Int32)) (y : Int32 × Int32 × (Nat → Int32) × (Nat → Int32) × (Nat → Int32) × (Nat → Int32) × (Nat → Int32) × (Nat → Int32)) => ∃ l, l ≤ 2000 ∧ x.1 = nI l ∧ y.1 = nI l) (fun i (x : Int32 × (Nat → Int32) × (Nat → Int32) × (Nat → Int32) × (Nat → Int32)) => (nI i, x)) (fun i (x : Int32 × Int32 × (Nat → Int32) × (Nat → Int32) × (Nat → Int32) × (Nat → Int32) × (Nat → Int32) × (Nat → Int32)) => (nI i, x))
      (fun i x y => (∃ l, l ≤ 64 * i ∧ x.1 = nI l ∧ y.1 = nI l) ∧ ∃ F B V, Gr C R (t * i) F B V x.2.1 x.2.2.1 x.2.2.2.2 y.2.2.1 y.2.2.2.2.1 y.2.2.2.1) 30 (by decide) ⟨⟨0, Nat.le_refl _, rfl, rfl⟩, F, B, _, h⟩ ?_ ?_) (fun x hx => ok_b hx (fun y hy => ok_i hy))
    · rintro i ⟨x1, x2, x3, x4, x5⟩ ⟨y1, y2, y3, y4, y5, y6, y7, y8⟩ hi ⟨⟨l, hl, e1, e2⟩, F, B, V, hg⟩
      dsimp only at e1 e2 hg ⊢
      subst e1 e2
      have hti : t * i ≤ 999 * 30 := Nat.mul_le_mul ht (by omega)
      unfold f1_lostBy_s2
      rw [show (30 : Int32) = nI 30 from rfl, if_neg (nI_ge hi (by decide))]
      obtain ⟨x, ex, m, em, oo, eo, y, rfl, ⟨l', hl', g1, g2⟩, ⟨F', B', V', g3⟩, -⟩ := fires_step (p := 30) (oat := y2) (ht1 := x4) (ht14 := y6) (fw := y7) (bw := y8) (a := 1) (wnd := wnd) hg w9 w10 w11 hC hR (show t * i + t < 2 ^ 29 by omega) (show l < 2 ^ 29 by omega) (Or.inl ⟨1, by decide, rfl⟩) hi (by decide)
      refine ok_e ex (ok_e em (ok_lt (ok_i (ok_eq eo ⟨m, y, ?_, rfl, ⟨l', by omega, g1, g2⟩, F', B', V', by rw [Nat.mul_succ]; exact g3⟩))))
      rw [nI_1]
    · rintro ⟨x1, x2, x3, x4, x5⟩ ⟨y1, y2, y3, y4, y5, y6, y7, y8⟩ ⟨⟨l, hl, e1, e2⟩, -⟩
      dsimp only at e1 e2 ⊢
      unfold f1_lostBy_s2
      rw [if_pos (show (30 : Int32) ≤ nI 30 by decide)]
      refine ok_i (ok_eq (fires_end (wnd := wnd) (Nat.le_refl _) (by decide)) ⟨_, _, rfl, rfl, l, by omega, e1, e2⟩)
  unfold f14_fires
  rw [en', bind_is]
  by_cases q : nI k = 0
  · rw [if_pos q]
    exact key 0
  · rw [if_neg q]
    exact key (-1)
