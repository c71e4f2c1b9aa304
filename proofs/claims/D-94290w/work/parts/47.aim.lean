/-! the plain law: a barn begun; how much burns; where to throw -/
set_option maxRecDepth 100000
theorem nbool {n : Nat} (h : n = 0 ∨ n = 1) : vp_nar .boolean (nI n) = nI n := by
  rcases h with rfl | rfl
  · decide
  · decide
theorem begin_ok {yf yb f v b : Nat → Int32} (hb : ∀ j, j < 64 → ∃ n : Nat, (n = 0 ∨ n = 1) ∧ yb j = nI n) (l : Int32) : Ok (f12_begin l f v b yf yb) (fun x => x.1 = nI 0 ∧ ∀ j, j < 64 → x.2.1 j = yf j ∧ x.2.2.1 j = nI 0 ∧ x.2.2.2 j = yb j) := by
  unfold f12_begin
  refine ok_b (Q := fun x => x.1 = nI 0 ∧ ∀ j, j < 64 → x.2.1 j = yf j ∧ x.2.2.1 j = nI 0 ∧ x.2.2.2 j = yb j) ?_ (fun x hx => ok_i hx)
  refine for_ok (fun i (x : (Nat → Int32) × (Nat → Int32) × (Nat → Int32)) => (nI i, x)) (fun i x => ∀ j, j < i → x.1 j = yf j ∧ x.2.1 j = nI 0 ∧ x.2.2 j = yb j) 64 (by decide) (fun j h => absurd h (Nat.not_lt_zero _)) ?_ ?_
  · rintro i ⟨x1, x2, x3⟩ hi hI
    obtain ⟨n, hn, en⟩ := hb i hi
    dsimp only at hI ⊢
    unfold f12_begin_s1
    rw [show (64 : Int32) = nI 64 from rfl, if_neg (nI_ge hi (by decide))]
    simp only [lt_is]
    rw [gd_t (inb_nI hi (by decide)), gd_t (inb_nI hi (by decide)), gd_t (inb_nI hi (by decide)), gd_t (inb_nI hi (by decide)), gd_t (inb_nI hi (by decide)), nI_clamp (by omega), en, nbool hn, nI_1]
    refine ok_i ⟨_, rfl, fun j hj => ?_⟩
    dsimp only
    by_cases q : j = i
    · subst q
      rw [pk_us, pk_us, pk_us, en]
      exact ⟨rfl, rfl, rfl⟩
    · rw [pk_un q, pk_un q, pk_un q]
      exact hI j (by omega)
  · rintro ⟨x1, x2, x3⟩ hI
    dsimp only at hI ⊢
    unfold f12_begin_s1
    rw [if_pos (by decide)]
    exact ok_i ⟨_, rfl, rfl, hI⟩
theorem light_ok {C R : Nat} {w f v b : Nat → Int32} (w9 : w 9 = nI C) (w10 : w 10 = nI R) (hC : C ≤ 8) (hR : R ≤ 8) (l : Int32) : Ok (f14_light l w f b v) (fun y => y.1 = nI 0 ∧ ∀ k, k < C * R → y.2.1 k = w (60 + k) ∧ y.2.2.1 k = w (130 + k) ∧ y.2.2.2 k = nI 0) := by
  have hCR : C * R ≤ 8 * 8 := Nat.mul_le_mul hC hR
  unfold f14_light
  refine ok_b (Q := fun y => y.1 = nI 0 ∧ ∀ k, k < C * R → y.2.1 k = w (60 + k) ∧ y.2.2.1 k = w (130 + k) ∧ y.2.2.2 k = nI 0) ?_ (fun x hx => ok_i hx)
  refine for_ok (fun i (x : (Nat → Int32) × (Nat → Int32) × (Nat → Int32)) => (nI i, x)) (fun i x => ∀ k, k < i → x.1 k = w (60 + k) ∧ x.2.1 k = w (130 + k) ∧ x.2.2 k = nI 0) (C * R) (by omega) (fun j h => absurd h (Nat.not_lt_zero _)) ?_ ?_
  · rintro i ⟨x1, x2, x3⟩ hi hI
    dsimp only at hI ⊢
    unfold f14_light_s1
    rw [cells_is w9 w10, bind_is, if_neg (nI_ge hi (by omega)), show (60 : Int32) = nI 60 from rfl, show (130 : Int32) = nI 130 from rfl]
    simp only [lt_is, nI_add]
    rw [gd_t (inb_nI (by omega) (by decide)), gd_t (inb_nI (by omega) (by decide)), gd_t (inb_nI (by omega) (by decide)), gd_t (inb_nI (by omega) (by decide)), gd_t (inb_nI (by omega) (by decide)), nI_clamp (show 60 + i < 2 ^ 31 by omega), nI_clamp (show 130 + i < 2 ^ 31 by omega), nI_clamp (show i < 2 ^ 31 by omega), nI_1]
    refine ok_i ⟨_, rfl, fun j hj => ?_⟩
    dsimp only
    by_cases q : j = i
    · subst q
      rw [pk_us, pk_us, pk_us]
      exact ⟨rfl, rfl, rfl⟩
    · rw [pk_un q, pk_un q, pk_un q]
      exact hI j (by omega)
  · rintro ⟨x1, x2, x3⟩ hI
    dsimp only at hI ⊢
    unfold f14_light_s1
    rw [cells_is w9 w10, bind_is, if_pos (nI_le (Nat.le_refl _) (by omega))]
    exact ok_i ⟨_, rfl, rfl, hI⟩
theorem light_eq {M C R P : Nat} {g fuel burns : Nat → Int32} {men : Nat → Option Nat} {IM : Nat → Nat → Int32} {w : Nat → Int32} (hY : YV M C R P g fuel burns men IM w) (l1 l14 : Int32) (f v b f' v' b' : Nat → Int32) : Ok (f12_begin l1 f v b fuel burns) (fun x => Ok (f14_light l14 w f' b' v') (fun y => x.1 = nI 0 ∧ y.1 = nI 0 ∧ ∃ F B, Gr C R 0 F B (fun _ _ => 0) x.2.1 x.2.2.1 x.2.2.2 y.2.1 y.2.2.2 y.2.2.1)) := by
  obtain ⟨⟨-, hC, hR, -⟩, ⟨-, -, -, w9, -, w10, -⟩, -, -, -, hcell⟩ := hY
  have hb : ∀ j, j < 64 → ∃ n : Nat, (n = 0 ∨ n = 1) ∧ burns j = nI n := by
    intro j hj
    have h := hcell (j / 8) (j % 8) (by omega) (by omega)
    have ej : 8 * (j / 8) + j % 8 = j := by omega
    rcases h with ⟨-, -, f, b, -, hb, -, -, e, -⟩ | ⟨-, -, e⟩
    · rw [ej] at e
      exact ⟨b, by omega, e⟩
    · rw [ej] at e
      exact ⟨0, Or.inl rfl, e⟩
  refine ok_w (begin_ok hb l1) ?_
  rintro x ⟨x0, hx⟩
  refine ok_w (light_ok w9 w10 hC hR l14) ?_
  rintro y ⟨y0, hy⟩
  refine ⟨x0, y0, fun r c => (fuel (8 * r + c)).toNatClampNeg, fun r c => (burns (8 * r + c)).toNatClampNeg, fun r c hr hc => ?_, fun j hj hg => ?_⟩
  · have hlt := cell_lt hC hR hr hc
    obtain ⟨a1, a2, a3⟩ := hx (8 * r + c) (by omega)
    obtain ⟨c1, c2, c3⟩ := hy (C * r + c) hlt.1
    rcases hcell r c (by omega) (by omega) with ⟨-, -, f0, b0, hf, hb0, e1, e2, e3, e4⟩ | ⟨h, -⟩
    · dsimp only
      rw [a1, a2, a3, c1, c2, c3, e1, e2, e3, e4, nI_clamp (by omega), nI_clamp (by omega)]
      exact ⟨⟨hf, hb0, Nat.le_refl _⟩, ⟨rfl, rfl⟩, ⟨rfl, rfl⟩, rfl, rfl⟩
    · exact (h ⟨hr, hc⟩).elim
  · obtain ⟨-, -, a3⟩ := hx j hj
    rw [a3]
    have ej : 8 * (j / 8) + j % 8 = j := by omega
    rcases hcell (j / 8) (j % 8) (by omega) (by omega) with ⟨h1, h2, -⟩ | ⟨-, -, e⟩
    · exact (hg ⟨h1, h2⟩).elim
    · rw [ej] at e
      exact e
theorem burning_eq {C R Z : Nat} {F B V : Nat → Nat → Nat} {f1 v1 b1 f14 v14 b14 w : Nat → Int32} (h : Gr C R Z F B V f1 v1 b1 f14 v14 b14) (w9 : w 9 = nI C) (w10 : w 10 = nI R) (hC : C ≤ 8) (hR : R ≤ 8) : Ok (f12_burning b1) (fun x => Ok (f14_burning w b14) (fun y => ∃ n, n ≤ 64 ∧ x = nI n ∧ y = nI n)) := by
  have hCR : C * R ≤ 8 * 8 := Nat.mul_le_mul hC hR
  unfold f12_burning f14_burning
  refine ok_b2 (S := fun x y => ∃ n, n ≤ 64 ∧ x = nI n ∧ y = nI n) ?_ (fun x y h => ok_i (ok_i h))
  refine ok_grid (fun j (x : Int32) => (x, nI j)) (fun j (x : Int32) => (x, nI j)) (fun j x y => ∃ n, n ≤ j ∧ x = nI n ∧ y = nI n) hC hR ⟨0, Nat.le_refl _, rfl, rfl⟩ ?_ ?_ ?_
  · rintro r c x y hr hc ⟨n, hn, rfl, rfl⟩
    obtain ⟨⟨hF, hB, -⟩, -, ⟨a3, a4⟩, -⟩ := h.1 r c hr hc
    have hlt := cell_lt hC hR hr hc
    dsimp only
    unfold f12_burning_s1 f14_burning_s1 f12_burning_j25
    rw [cells_is w9 w10, bind_is, show (64 : Int32) = nI 64 from rfl, if_neg (nI_ge (show 8 * r + c < 64 by omega) (by decide)), if_neg (nI_ge hlt.1 (by omega)), gd_t (inb_nI (by omega) (by decide)), gd_t (inb_nI (by omega) (by decide)), lt_is, lt_is, nI_clamp (by omega), nI_clamp (by omega), a3, a4]
    rcases hB with hB | ⟨hB, -⟩
    · rw [if_pos (show nI (B r c) = 0 by rw [hB]; rfl), hB]
      simp only [lt_is, nI_1, nI_add, z_0]
      exact ok_i (ok_i ⟨_, _, rfl, rfl, n, by omega, rfl, rfl⟩)
    · rw [if_neg (show ¬ nI (B r c) = 0 by rw [hB]; decide), hB]
      simp only [lt_is, nI_1, nI_add]
      exact ok_i (ok_i ⟨_, _, rfl, rfl, n + 1, by omega, rfl, rfl⟩)
  · rintro j x y hj hg ⟨n, hn, rfl, rfl⟩
    dsimp only
    unfold f12_burning_s1 f12_burning_j25
    rw [show (64 : Int32) = nI 64 from rfl, if_neg (nI_ge hj (by decide)), gd_t (inb_nI hj (by decide)), lt_is, nI_clamp (by omega), h.2 j hj hg, if_pos rfl]
    simp only [lt_is, nI_1, nI_add, z_0]
    exact ok_i ⟨_, rfl, n, by omega, rfl, rfl⟩
  · rintro x y ⟨n, hn, rfl, rfl⟩
    dsimp only
    unfold f12_burning_s1 f14_burning_s1
    rw [cells_is w9 w10, bind_is, if_pos (show (64 : Int32) ≤ nI 64 by decide), if_pos (nI_le (Nat.le_refl _) (by omega))]
    exact ok_i (ok_i ⟨_, _, rfl, rfl, n, hn, rfl, rfl⟩)
/-! aims -/
theorem nI_nm1 {k : Nat} (hk : k < 2 ^ 31) : ¬ nI k = -1 := fun e => nI_pos hk (e ▸ by decide)
def Aim (C R : Nat) (a : Int32) : Prop := (∃ k : Nat, k ≤ 3 ∧ a = nI k) ∨ ∃ r c, r < R ∧ c < C ∧ a = nI (100 + 10 * r + c)
theorem scan_eq {C R base n : Nat} {F B : Nat → Nat → Nat} {f1 b1 x2 x3 w : Nat → Int32} (h : Gp C R F B f1 b1) (hm : Gm C R F B base n x2 x3) (w9 : w 9 = nI C) (w10 : w 10 = nI R) (hC : C ≤ 8) (hR : R ≤ 8) (a : Int32) : Ok (whl (fun (s4 : Int32 × Int32) => f12_aimed_s4 a f1 b1 s4.1 s4.2) FU ((-1 : Int32), (0 : Int32))) (fun x => Ok (whl (fun (s3 : Int32 × Int32) => f14_aimed_s3 a (nI base) n n w x2 x3 s3.1 s3.2) FU ((-1 : Int32), (0 : Int32))) (fun y => Cel C R x y)) := by
  obtain ⟨hn1, hn2, hG⟩ := hm
  have hCR : C * R ≤ 8 * 8 := Nat.mul_le_mul hC hR
  refine ok_grid (fun j (x : Int32) => (x, nI j)) (fun j (x : Int32) => (x, nI j)) (fun j x y => Cel C R x y) hC hR (Or.inl ⟨rfl, rfl⟩) ?_ ?_ ?_
  · rintro r c x y hr hc hxy
    obtain ⟨hF, hB, a1, a3⟩ := h.1 r c hr hc
    obtain ⟨-, -, a2, a4⟩ := hG r c hr hc
    have hlt := cell_lt hC hR hr hc
    have hnew : Cel C R (nI (8 * r + c)) (nI (C * r + c)) := Or.inr ⟨r, c, hr, hc, rfl, rfl⟩
    dsimp only
    unfold f12_aimed_s4 f14_aimed_s3 f12_aimed_j117 f14_aimed_j174 f12_aimed_j120 f14_aimed_j178
    rw [cells_is w9 w10, bind_is, show (64 : Int32) = nI 64 from rfl, if_neg (nI_ge (show 8 * r + c < 64 by omega) (by decide)), if_neg (nI_ge hlt.1 (by omega))]
    simp only [lt_is, nI_add, nI_1]
    rw [gd_t (inb_nI (show 8 * r + c < 64 by omega) (by decide)), gd_t (inb_nI (show base + (C * r + c) < n by omega) (by omega))]
    simp (disch := omega) only [nI_clamp]
    rw [a3, a4]
    rcases hB with hB | ⟨hB, -⟩
    · rw [if_pos (show nI (B r c) = 0 by rw [hB]; rfl), if_pos (show nI (B r c) = 0 by rw [hB]; rfl)]
      exact ok_i (ok_i ⟨_, _, rfl, rfl, hxy⟩)
    · rw [if_neg (show ¬ nI (B r c) = 0 by rw [hB]; decide), if_neg (show ¬ nI (B r c) = 0 by rw [hB]; decide)]
      rcases hxy with ⟨rfl, rfl⟩ | ⟨r', c', hr', hc', rfl, rfl⟩
      · rw [if_pos rfl, if_pos rfl]
        exact ok_i (ok_i ⟨_, _, rfl, rfl, hnew⟩)
      · have hold : Cel C R (nI (8 * r' + c')) (nI (C * r' + c')) := Or.inr ⟨r', c', hr', hc', rfl, rfl⟩
        obtain ⟨hF', -, a1', -⟩ := h.1 r' c' hr' hc'
        obtain ⟨-, -, a2', -⟩ := hG r' c' hr' hc'
        have hlt' := cell_lt hC hR hr' hc'
        rw [if_neg (nI_nm1 (show 8 * r' + c' < 2 ^ 31 by omega)), if_neg (nI_nm1 (show C * r' + c' < 2 ^ 31 by omega))]
        simp only [nI_add]
        rw [gd_t (inb_nI (show 8 * r + c < 64 by omega) (by decide)), gd_t (inb_nI (show base + (C * r + c) < n by omega) (by omega)), gd_t (inb_nI (show 8 * r' + c' < 64 by omega) (by decide)), gd_t (inb_nI (show base + (C * r' + c') < n by omega) (by omega)), gd_t (inb_nI (show 8 * r + c < 64 by omega) (by decide)), gd_t (inb_nI (show base + (C * r + c) < n by omega) (by omega)), gd_t (inb_nI (show 8 * r' + c' < 64 by omega) (by decide)), gd_t (inb_nI (show base + (C * r' + c') < n by omega) (by omega)), nI_clamp (show 8 * r' + c' < 2 ^ 31 by omega), nI_clamp (show base + (C * r' + c') < 2 ^ 31 by omega), a1, a2, a1', a2']
        by_cases q2 : a = 2
        · rw [if_pos q2, if_pos q2]
          by_cases q3 : nI (F r' c') ≤ nI (F r c)
          · rw [if_pos q3, if_pos q3]
            exact ok_i (ok_i ⟨_, _, rfl, rfl, hold⟩)
          · rw [if_neg q3, if_neg q3]
            exact ok_i (ok_i ⟨_, _, rfl, rfl, hnew⟩)
        · rw [if_neg q2, if_neg q2]
          by_cases q3 : nI (F r c) ≤ nI (F r' c')
          · rw [if_pos q3, if_pos q3]
            exact ok_i (ok_i ⟨_, _, rfl, rfl, hold⟩)
          · rw [if_neg q3, if_neg q3]
            exact ok_i (ok_i ⟨_, _, rfl, rfl, hnew⟩)
  · rintro j x y hj hg hxy
    dsimp only
    unfold f12_aimed_s4 f12_aimed_j120
    rw [show (64 : Int32) = nI 64 from rfl, if_neg (nI_ge hj (by decide)), gd_t (inb_nI hj (by decide)), lt_is]
    simp (disch := omega) only [nI_clamp]
    rw [h.2 j hj hg, if_pos rfl, lt_is, nI_1]
    exact ok_i ⟨_, rfl, hxy⟩
  · rintro x y hxy
    dsimp only
    unfold f12_aimed_s4 f14_aimed_s3
    rw [cells_is w9 w10, bind_is, if_pos (show (64 : Int32) ≤ nI 64 by decide), if_pos (nI_le (Nat.le_refl _) (by omega))]
    exact ok_i (ok_i ⟨_, _, rfl, rfl, hxy⟩)
theorem hot_eq {C R base n : Nat} {wnd : Int32} {F B : Nat → Nat → Nat} {h1 x2 x3 w : Nat → Int32} (hm : Gm C R F B base n x2 x3) (hh1 : ∀ r c, r < R → c < C → h1 (8 * r + c) = nI (Hv C R wnd F B r c)) (w9 : w 9 = nI C) (w10 : w 10 = nI R) (w11 : w 11 = wnd) (hC : C ≤ 8) (hR : R ≤ 8) : Ok (whl (fun (s2 : Int32 × Int32) => f12_hottest_s2 (nI C) (nI R) h1 s2.1 s2.2) FU ((-1 : Int32), (0 : Int32))) (fun x => Ok (whl (fun (s28 : Int32 × Int32 × Int32) => f14_aimed_s28 (nI base) n n w x2 x3 s28.1 s28.2.1 s28.2.2) FU ((-1 : Int32), (0 : Int32), (0 : Int32))) (fun y => Cel C R x y)) := by
  have hCR : C * R ≤ 8 * 8 := Nat.mul_le_mul hC hR
  have hF : ∀ r c, r < R → c < C → F r c ≤ 9 := fun r c hr hc => (hm.2.2 r c hr hc).1
  refine ok_nest (si := fun r (s4 : Int32 × Int32) => f12_hottest_s4 (nI C) h1 (nI r) s4.1 s4.2) (e := fun r x => f12_hottest_e4_0 (nI r) x) (fun r (x : Int32) => (x, nI r)) (fun c (x : Int32) => (x, nI c)) (fun x => x) (fun k (y : Int32 × Int32) => (y.1, y.2, nI k))
    (fun r c x y => (x = -1 ∧ y.1 = -1 ∧ y.2 = nI 0) ∨ ∃ r' c', r' < R ∧ c' < C ∧ x = nI (8 * r' + c') ∧ y.1 = nI (C * r' + c') ∧ y.2 = nI (Hv C R wnd F B r' c')) (x2 := ((-1 : Int32), (0 : Int32))) hC hR ?_ ?_ ?_ ?_ ?_ ?_ ?_
  · exact Or.inl ⟨rfl, rfl, rfl⟩
  · intro r x hr
    dsimp only
    unfold f12_hottest_s2
    rw [if_neg (nI_ge hr (by omega))]
    rfl
  · intro r x hr
    dsimp only
    unfold f12_hottest_s4
    rw [if_pos (nI_le (Nat.le_refl _) (by omega))]
  · intro r x hr
    try dsimp only
    unfold f12_hottest_e4_0
    rw [lt_is, nI_1]
  · rintro r c x ⟨y1, y2⟩ hr hc hxy
    have hlt := cell_lt hC hR hr hc
    have hHv := (Hv_le (C := C) (R := R) (wnd := wnd) (B := B) hF (r := r) (c := c)).1
    dsimp only at hxy ⊢
    unfold f12_hottest_s4 f14_aimed_s28 f12_hottest_j58 f12_hottest_j68 f14_aimed_j86
    rw [cells_is w9 w10, bind_is, if_neg (nI_ge hc (by omega)), if_neg (nI_ge hlt.1 (by omega)), heatOf_is hm w9 w10 w11 hC hR hr hc, bind_is, show (8 : Int32) = nI 8 from rfl]
    simp only [lt_is, pk_mul, nI_add, nI_1]
    rw [gd_t (inb_nI (show 8 * r + c < 64 by omega) (by decide)), nI_clamp (show 8 * r + c < 2 ^ 31 by omega), hh1 r c hr hc]
    have hnew : (nI (8 * r + c) = -1 ∧ nI (C * r + c) = -1 ∧ nI (Hv C R wnd F B r c) = nI 0) ∨ ∃ r' c', r' < R ∧ c' < C ∧ nI (8 * r + c) = nI (8 * r' + c') ∧ nI (C * r + c) = nI (C * r' + c') ∧ nI (Hv C R wnd F B r c) = nI (Hv C R wnd F B r' c') := Or.inr ⟨r, c, hr, hc, rfl, rfl, rfl⟩
    rcases hxy with ⟨rfl, rfl, rfl⟩ | ⟨r', c', hr', hc', rfl, rfl, rfl⟩
    · rw [if_pos rfl]
      by_cases q : 0 < Hv C R wnd F B r c
      · rw [if_neg (nI_nle q (by omega)), if_pos (nI_lt q (by omega))]
        exact ok_i (ok_i ⟨nI (8 * r + c), (nI (C * r + c), nI (Hv C R wnd F B r c)), rfl, rfl, hnew⟩)
      · rw [show Hv C R wnd F B r c = 0 by omega, if_pos (show nI 0 ≤ 0 by decide), if_neg (show ¬ nI 0 < nI 0 by decide)]
        exact ok_i (ok_i ⟨-1, (-1, nI 0), rfl, rfl, Or.inl ⟨rfl, rfl, rfl⟩⟩)
    · have hlt' := cell_lt hC hR hr' hc'
      have hHv' := (Hv_le (C := C) (R := R) (wnd := wnd) (B := B) hF (r := r') (c := c')).1
      rw [if_neg (nI_nm1 (show 8 * r' + c' < 2 ^ 31 by omega)), gd_t (inb_nI (show 8 * r' + c' < 64 by omega) (by decide)), nI_clamp (show 8 * r' + c' < 2 ^ 31 by omega), hh1 r' c' hr' hc']
      by_cases q : Hv C R wnd F B r' c' < Hv C R wnd F B r c
      · rw [if_neg (nI_ge q (by omega)), if_pos (nI_lt q (by omega))]
        exact ok_i (ok_i ⟨nI (8 * r + c), (nI (C * r + c), nI (Hv C R wnd F B r c)), rfl, rfl, hnew⟩)
      · rw [if_pos (nI_le (show Hv C R wnd F B r c ≤ Hv C R wnd F B r' c' by omega) (by omega)), if_neg (nI_nlt (show Hv C R wnd F B r c ≤ Hv C R wnd F B r' c' by omega) (by omega))]
        exact ok_i (ok_i ⟨nI (8 * r' + c'), (nI (C * r' + c'), nI (Hv C R wnd F B r' c')), rfl, rfl, Or.inr ⟨r', c', hr', hc', rfl, rfl, rfl⟩⟩)
  · exact fun r x y hr h => h
  · rintro x ⟨y1, y2⟩ hxy
    dsimp only at hxy ⊢
    unfold f12_hottest_s2 f14_aimed_s28
    rw [cells_is w9 w10, bind_is, if_pos (nI_le (Nat.le_refl _) (by omega)), if_pos (nI_le (Nat.le_refl _) (by omega))]
    refine ok_i (ok_i ⟨_, _, rfl, rfl, ?_⟩)
    rcases hxy with ⟨rfl, rfl, -⟩ | ⟨r', c', hr', hc', rfl, rfl, -⟩
    · exact Or.inl ⟨rfl, rfl⟩
    · exact Or.inr ⟨r', c', hr', hc', rfl, rfl⟩
theorem aimed_eq {C R base n : Nat} {wnd : Int32} {F B : Nat → Nat → Nat} {f1 b1 x2 x3 w : Nat → Int32} (h : Gp C R F B f1 b1) (hm : Gm C R F B base n x2 x3) (w9 : w 9 = nI C) (w10 : w 10 = nI R) (w11 : w 11 = wnd) (hC : C ≤ 8) (hR : R ≤ 8) {a : Int32} (ha : Aim C R a) (ht : Nat → Int32) : Ok (f12_aimed a (nI C) (nI R) wnd f1 ht b1) (fun x => Ok (f14_aimed a (nI base) n n w x2 x3) (fun y => Cel C R x.1 y)) := by
  unfold f12_aimed f14_aimed
  rcases ha with ⟨k, hk, rfl⟩ | ⟨r, c, hr, hc, rfl⟩
  · have hlt : nI k < (100 : Int32) := by
      rw [show (100 : Int32) = nI 100 from rfl]
      exact nI_lt (by omega) (by decide)
    rw [if_pos hlt, if_pos hlt]
    by_cases h3 : k = 3
    · subst h3
      rw [if_pos (by decide), if_neg (by decide), if_pos (by decide)]
      obtain ⟨hh, eh, hh1⟩ := warm_ok (wnd := wnd) h hC hR ht
      obtain ⟨x, ex, y, ey, hxy⟩ := hot_eq (wnd := wnd) hm hh1 w9 w10 w11 hC hR
      have e1 : f12_hottest (nI C) (nI R) wnd f1 ht b1 = some (x, hh) := by
        unfold f12_hottest f12_hottest_e2_0
        rw [eh, bind_is, ex, bind_is]
      rw [e1, bind_is, ey, bind_is]
      unfold f12_aimed_j38 f14_aimed_e28_0 f14_aimed_j101
      dsimp only
      rw [if_neg (show ¬ nI 3 = 0 by decide)]
      rcases hxy with ⟨rfl, rfl⟩ | ⟨r, c, hr, hc, rfl, rfl⟩
      · rw [if_pos rfl, if_pos rfl]
        refine ok_b2 (scan_eq h hm w9 w10 hC hR (nI 3)) ?_
        intro x y hxy
        exact ok_i (ok_i hxy)
      · have hlt := cell_lt hC hR hr hc
        rw [if_neg (nI_nm1 (show 8 * r + c < 2 ^ 31 by omega)), if_neg (nI_nm1 (show C * r + c < 2 ^ 31 by omega))]
        exact ok_i (ok_i (Or.inr ⟨r, c, hr, hc, rfl, rfl⟩))
    · have hn3 : ¬ nI k = 3 := fun e => h3 ((nI_eq (by omega) (by decide)).mp e)
      rw [if_neg hn3, if_neg hn3]
      unfold f12_aimed_j38 f14_aimed_j101
      by_cases h0 : k = 0
      · subst h0
        rw [if_pos (by decide), if_pos (by decide)]
        exact ok_i (ok_i (Or.inl ⟨rfl, rfl⟩))
      · have hn0 : ¬ nI k = 0 := nI_ne0 (by omega) (by omega)
        rw [if_neg hn0, if_neg hn0, if_pos rfl]
        refine ok_b2 (scan_eq h hm w9 w10 hC hR (nI k)) ?_
        intro x y hxy
        exact ok_i (ok_i hxy)
  · have hlt : ¬ nI (100 + 10 * r + c) < (100 : Int32) := by
      rw [show (100 : Int32) = nI 100 from rfl]
      exact nI_nlt (by omega) (by omega)
    have hn0 : ¬ nI (100 + 10 * r + c) = 0 := nI_ne0 (by omega) (by omega)
    have e1 : nI (100 + 10 * r + c) - (100 : Int32) = nI (10 * r + c) := by
      rw [show (100 : Int32) = nI 100 from rfl, pk_sub (by omega), show 100 + 10 * r + c - 100 = 10 * r + c by omega]
    have e2 : nI (10 * r + c) / (10 : Int32) = nI r := by
      rw [show (10 : Int32) = nI 10 from rfl, pk_div (by omega) (by decide) (by decide), show (10 * r + c) / 10 = r by omega]
    have e3 : nI (10 * r + c) - nI r * (10 : Int32) = nI c := by
      rw [show (10 : Int32) = nI 10 from rfl, pk_mul, pk_sub (by omega), show 10 * r + c - r * 10 = c by omega]
    rw [if_neg hlt, if_neg hlt, if_neg hn0]
    simp only [lt_is, columns_is, w9, bind_is, e1, e2, e3]
    rw [gd_t (show ¬ (10 : Int32) = 0 by decide), gd_t (show ¬ (10 : Int32) = 0 by decide), gd_t (show ¬ (10 : Int32) = 0 by decide), gd_t (show ¬ (10 : Int32) = 0 by decide), show (8 : Int32) = nI 8 from rfl, pk_mul, pk_mul, nI_add, nI_add]
    exact ok_i (ok_i (Or.inr ⟨r, c, hr, hc, rfl, rfl⟩))
/-- whether an aim is one -/
theorem isAim_eq {C R : Nat} {w : Nat → Int32} (w9 : w 9 = nI C) (w10 : w 10 = nI R) (hC : C ≤ 8) (hR : R ≤ 8) (a : Int32) : (f4_isAim a (nI C) (nI R) = some 1 ∧ f14_isAim a w = some 1 ∧ Aim C R a) ∨ (f4_isAim a (nI C) (nI R) = some 0 ∧ f14_isAim a w = some 0) := by
  unfold f4_isAim f14_isAim f4_isAim_j36 f4_isAim_j40 f14_isAim_j55
  by_cases h100 : a < 100
  · have h100' : ¬ (100 : Int32) ≤ a := by
      rw [Int32.lt_iff_toInt_lt] at h100
      rw [Int32.le_iff_toInt_le]
      omega
    rw [if_neg h100']
    rcases isIn_cc a (a := 0) (b := 3) (A := 0) (B := 3) rfl rfl (by decide) (by decide) with ⟨e, e', -⟩ | ⟨e, e', j, -, hj, rfl⟩
    · rw [e, e', bind_is, bind_is, if_pos rfl, if_pos h100, gd_t (by decide)]
      exact Or.inr ⟨rfl, rfl⟩
    · rw [e, e', bind_is, bind_is, if_neg (by decide), gd_t (by decide)]
      exact Or.inl ⟨rfl, rfl, Or.inl ⟨j, hj, rfl⟩⟩
  · have h100' : (100 : Int32) ≤ a := by
      rw [Int32.lt_iff_toInt_lt] at h100
      rw [Int32.le_iff_toInt_le]
      omega
    have hpos : ¬ a < 0 := by
      have := Int32.le_iff_toInt_le.mp h100'
      rw [Int32.lt_iff_toInt_lt]
      have e1 : (100 : Int32).toInt = 100 := rfl
      have e2 : (0 : Int32).toInt = 0 := rfl
      omega
    obtain ⟨k, hk, rfl⟩ := nI_of hpos
    have hk100 : 100 ≤ k := (nI_leI (by decide) hk).mp h100'
    have e0 : f1_isIn (nI k) 0 3 = some 0 := by
      rw [isIn1, if_neg hpos, if_pos (show (3 : Int32) < nI k from nI_lt (a := 3) (by omega) hk)]
    have e1 : nI k - (100 : Int32) = nI (k - 100) := by rw [show (100 : Int32) = nI 100 from rfl, pk_sub hk100]
    have e2 : nI (k - 100) / (10 : Int32) = nI ((k - 100) / 10) := by rw [show (10 : Int32) = nI 10 from rfl, pk_div (by omega) (by decide) (by decide)]
    have e3 : nI (k - 100) - nI ((k - 100) / 10) * (10 : Int32) = nI ((k - 100) % 10) := by
      rw [show (10 : Int32) = nI 10 from rfl, pk_mul, pk_sub (by omega), show k - 100 - (k - 100) / 10 * 10 = (k - 100) % 10 by omega]
    rw [if_pos h100', e0, bind_is, if_pos rfl, if_neg h100]
    simp only [lt_is, columns_is, w9, bind_is, e1, e2, e3]
    rw [gd_t (show ¬ (10 : Int32) = 0 by decide), gd_t (show ¬ (10 : Int32) = 0 by decide), gd_t (show ¬ (10 : Int32) = 0 by decide), gd_t (show ¬ (10 : Int32) = 0 by decide), gd_t (show inb (10 : Int32) 800 by decide), show (10 : Int32).toNatClampNeg = 10 from rfl, w10]
    rcases isCell_or (nI ((k - 100) % 10)) (nI ((k - 100) / 10)) (C := C) (R := R) (by omega) (by omega) with ⟨e, r, c, hr, hc, c1, c2⟩ | ⟨e, hno⟩
    · have d1 := (nI_eq (by omega) (by omega)).mp c1
      have d2 := (nI_eq (by omega) (by omega)).mp c2
      rw [e, bind_is, if_neg (by decide), if_neg (show ¬ (177 : Int32) < nI k from nI_nlt (a := 177) (by omega) (by decide)), if_neg (nI_ge (by omega) (by omega)), if_neg (nI_ge (by omega) (by omega))]
      exact Or.inl ⟨rfl, rfl, Or.inr ⟨r, c, hr, hc, by rw [show k = 100 + 10 * r + c by omega]⟩⟩
    · rw [e, bind_is, if_pos rfl]
      refine Or.inr ⟨rfl, ?_⟩
      by_cases q1 : 177 < k
      · rw [if_pos (show (177 : Int32) < nI k from nI_lt (a := 177) q1 hk)]
      · rw [if_neg (show ¬ (177 : Int32) < nI k from nI_nlt (a := 177) (by omega) (by decide))]
        by_cases q2 : C ≤ (k - 100) % 10
        · rw [if_pos (nI_le q2 (by omega))]
        · rw [if_neg (nI_ge (show (k - 100) % 10 < C by omega) (by omega))]
          by_cases q3 : R ≤ (k - 100) / 10
          · rw [if_pos (nI_le q3 (by omega))]
          · exact (hno _ _ (by omega) (by omega) rfl rfl).elim
