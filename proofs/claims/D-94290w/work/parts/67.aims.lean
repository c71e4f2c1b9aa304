/-! the plain law: aims -/
set_option maxRecDepth 100000
def AmR (D : Nat) (b1 b14 : Int32) (r1 r14 : Nat → Int32) : Prop := (b1 = nI 1000000000 ∧ b14 = -1) ∨ ∃ b : Nat, b ≤ 2000 ∧ b1 = nI b ∧ b14 = nI b ∧ ∀ j, j < D → r1 j = r14 j
theorem aim_leaf14 {D : Nat} (hD : D ≤ 3) {st row best : Nat → Int32} {x : Int32 × (Nat → Int32) × (Nat → Int32) × (Nat → Int32) × (Nat → Int32)} : Ok (f14_tryAims_j48 (nI D) st row best x) (fun z => z.2.1 = x.1 ∧ z.2.2.2.2.2.2.1 = st ∧ z.2.2.2.2.2.2.2.1 = row ∧ ∀ j, j < D → z.2.2.2.2.2.2.2.2 j = row j) := by
  unfold f14_tryAims_j48
  refine ok_b (Q := fun (z : Int32 × Int32 × (Nat → Int32) × (Nat → Int32) × (Nat → Int32) × (Nat → Int32) × (Nat → Int32) × (Nat → Int32) × (Nat → Int32)) => z.2.1 = x.1 ∧ z.2.2.2.2.2.2.1 = st ∧ z.2.2.2.2.2.2.2.1 = row ∧ ∀ j, j < D → z.2.2.2.2.2.2.2.2 j = row j) ?_ (fun x h => ok_i h)
  refine for_ok (fun i (x : Nat → Int32) => (nI i, x)) (fun i x => ∀ j, j < i → x j = row j) D (by omega) (fun j h => absurd h (Nat.not_lt_zero _)) ?_ ?_
  · intro i x hi hI
    have hic : (nI i).toNatClampNeg = i := nI_clamp (by omega)
    dsimp only
    unfold f14_tryAims_s38
    rw [if_neg (nI_ge hi (by omega))]
    simp only [gd_t (inb_nI (show i < 3 by omega) (by decide)), lt_is, hic, nI_1]
    refine ok_i ⟨_, rfl, fun k hk => ?_⟩
    by_cases e : k = i
    · subst e; rw [pk_us]
    · rw [pk_un e]; exact hI k (by omega)
  · intro x hI
    dsimp only
    unfold f14_tryAims_s38
    rw [if_pos (nI_le (Nat.le_refl _) (by omega))]
    exact ok_i ⟨_, rfl, rfl, rfl, rfl, hI⟩
theorem min_no (t : Nat) : f12_minute (-1) (nI t) = f12_minute (-1) (nI 0) := by
  funext a1 a2 a3 a4 a5 a6 a7 a8
  unfold f12_minute
  rw [if_pos rfl, if_pos rfl]
theorem aim_leaf_3 {C R Z l : Nat} {wnd : Int32} {F B V : Nat → Nat → Nat} {f1 v1 b1 h1 w f14 v14 b14 h14 : Nat → Int32} (hg : Gr C R Z F B V f1 v1 b1 f14 v14 b14) (w9 : w 9 = nI C) (w10 : w 10 = nI R) (w11 : w 11 = wnd) (hC : C ≤ 8) (hR : R ≤ 8) (hZ : Z ≤ 9999) (hl : l ≤ 64 * 3) : Ok (whl (fun (s20 : Int32 × Int32 × (Nat → Int32) × (Nat → Int32) × (Nat → Int32) × (Nat → Int32)) => f1_tries_3_s18 (nI C) (nI R) wnd s20.1 s20.2.1 s20.2.2.1 s20.2.2.2.1 s20.2.2.2.2.1 s20.2.2.2.2.2) FU ((3 : Int32), nI l, f1, v1, h1, b1)) (fun x => Ok (whl (fun (s37 : Int32 × Int32 × (Nat → Int32) × (Nat → Int32) × (Nat → Int32) × (Nat → Int32)) => f14_tryAims_s37 w s37.1 s37.2.1 s37.2.2.1 s37.2.2.2.1 s37.2.2.2.2.1 s37.2.2.2.2.2) FU ((3 : Int32), nI l, f14, b14, v14, h14)) (fun y => ∃ v : Nat, v ≤ 2000 ∧ x.1 = nI v ∧ y.1 = nI v)) := by
  refine for2_ok (fun i (x : Int32 × (Nat → Int32) × (Nat → Int32) × (Nat → Int32) × (Nat → Int32)) => (nI (3 + i), x)) (fun i (x : Int32 × (Nat → Int32) × (Nat → Int32) × (Nat → Int32) × (Nat → Int32)) => (nI (3 + i), x)) (fun i x y => (∃ v, v ≤ 64 * (3 + i) ∧ x.1 = nI v ∧ y.1 = nI v) ∧ ∃ F B V, Gr C R Z F B V x.2.1 x.2.2.1 x.2.2.2.2 y.2.1 y.2.2.2.1 y.2.2.1) (20 - 3) (by decide) ⟨⟨l, hl, rfl, rfl⟩, F, B, V, hg⟩ ?_ ?_
  · rintro i ⟨x1, x2, x3, x4, x5⟩ ⟨y1, y2, y3, y4, y5⟩ hi ⟨⟨v, hv, e1, e2⟩, F, B, V, hg⟩
    dsimp only at e1 e2 hg ⊢
    subst e1 e2
    unfold f1_tries_3_s18 f14_tryAims_s37
    rw [show (20 : Int32) = nI 20 from rfl, if_neg (nI_ge (show 3 + i < 20 by omega) (by decide)), if_neg (nI_ge (show 3 + i < 20 by omega) (by decide))]
    refine ok_b2 (minute_eq (t := 0) (p1 := -1) (p14 := -1) hg w9 w10 w11 hC hR (by omega) (by omega) (Or.inl ⟨rfl, rfl⟩) x4 y5) ?_
    rintro x' y' ⟨⟨l', hl', e1, e2⟩, F', B', V', hg'⟩
    rw [lt_is, lt_is, nI_1]
    exact ok_i (ok_i ⟨_, _, rfl, rfl, ⟨l', by omega, e1, e2⟩, F', B', V', hg'⟩)
  · rintro x y ⟨⟨v, hv, e1, e2⟩, -⟩
    dsimp only
    unfold f1_tries_3_s18 f14_tryAims_s37
    rw [show (20 : Int32) = nI 20 from rfl, if_pos (by decide), if_pos (by decide)]
    exact ok_i (ok_i ⟨_, _, rfl, rfl, v, by omega, e1, e2⟩)
theorem aim_tries_3 {C R D t Z l : Nat} {wnd : Int32} {F B V : Nat → Nat → Nat} {w f14 v14 b14 h14 st row best14 : Nat → Int32} {lb1 lb14 : Int32} (hD : D ≤ 3) (hdD : 3 ≤ D) (w9 : w 9 = nI C) (w10 : w 10 = nI R) (w11 : w 11 = wnd) (hC : C ≤ 8) (hR : R ≤ 8) (ht : t ≤ 999) (hZ : Z ≤ 999 * 3) (hl : l ≤ 64 * 3) (l85 l107 : Int32) (y : Nat) (y85 : Option Nat) (f85 w85 h85 b85 f107 w107 b107 aims best : Nat → Int32) (hg : Gr C R Z F B V f107 w107 b107 f14 v14 b14) (hbl : l107 = nI l) (hrow : ∀ j, j < 3 → aims j = row j) (hA : AmR D lb1 lb14 best best14) :
    Ok (f1_tries_3 (nI D) (nI t) y lb1 (nI C) (nI R) wnd l85 l107 y85 f85 w85 h85 b85 f107 w107 b107 aims best) (fun x => Ok (fG_X14_tryAims 2 (nI 3) (nI t) (nI l) lb14 (nI D) w f14 b14 v14 h14 st row best14) (fun z => AmR D x.1 z.2.1 x.2.2.2.2.2.2.2 z.2.2.2.2.2.2.2.2 ∧ (∀ q, q < 192 * 3 → z.2.2.2.2.2.2.1 q = st q) ∧ (∀ j, j < 3 → z.2.2.2.2.2.2.2.1 j = row j) ∧ ¬ z.2.1 = -1)) := by
  show Ok (f1_tries_3 (nI D) (nI t) y lb1 (nI C) (nI R) wnd l85 l107 y85 f85 w85 h85 b85 f107 w107 b107 aims best) (fun x => Ok (fb14_tryAims (fG_X14_tryAims 1) (nI 3) (nI t) (nI l) lb14 (nI D) w f14 b14 v14 h14 st row best14) _)
  unfold f1_tries_3 fb14_tryAims
  by_cases hp : 3 = D
  · subst hp
    rw [if_pos (show (3 : Int32) = nI 3 from rfl), if_pos rfl]
    obtain ⟨x, ex, e1, hx⟩ := be_ok hg hC hR l107 l85 f85 w85 b85
    rw [ex, bind_is, e1, hbl]
    refine ok_b2 (aim_leaf_3 (h1 := h85) (h14 := h14) hx w9 w10 w11 hC hR (by omega) hl) ?_
    rintro q z ⟨v, hv, g1, g2⟩
    unfold f1_tries_3_e18_0 f14_tryAims_e37_0
    obtain ⟨z9, ez, c1, c2, c3, c4⟩ := aim_leaf14 (D := 3) (by decide) (st := st) (row := row) (best := best14) (x := z)
    rw [g2] at c1
    have hcp : cp_ok (0 : Int32) (0 : Int32) (3 : Int32) 3 3 := cp_n (n := 3) (by decide) (by decide) (by decide)
    have hnew : ∀ (e : AmR 3 q.1 z9.2.1 (va_cpy aims best (0 : Int32).toNatClampNeg (0 : Int32).toNatClampNeg (3 : Int32).toNatClampNeg) z9.2.2.2.2.2.2.2.2), True := fun _ => trivial
    have hA2 : AmR 3 q.1 z9.2.1 (va_cpy aims best (0 : Int32).toNatClampNeg (0 : Int32).toNatClampNeg (3 : Int32).toNatClampNeg) z9.2.2.2.2.2.2.2.2 := Or.inr ⟨v, hv, g1, c1, fun j hj => (cpy_at (n := 3) (by decide) hj).trans ((hrow j hj).trans (c4 j hj).symm)⟩
    rcases hA with ⟨a1, a2⟩ | ⟨b, hb, a1, a2, a3⟩
    · rw [if_pos (show q.1 < lb1 by rw [g1, a1]; exact nI_lt (by omega) (by omega)), if_pos a2, ez, gd_t hcp, lt_is]
      exact ok_i (ok_i ⟨hA2, fun q _ => by rw [c2], fun j hj => by rw [c3], by rw [c1]; exact nI_nm1 (by omega)⟩)
    · have hn1 : ¬ lb14 = -1 := by
        rw [a2]
        exact nI_nm1 (by omega)
      rw [if_neg hn1]
      by_cases hvb : v < b
      · rw [if_pos (show q.1 < lb1 by rw [g1, a1]; exact nI_lt hvb (by omega)), if_pos (show z.1 < lb14 by rw [g2, a2]; exact nI_lt hvb (by omega)), ez, gd_t hcp, lt_is]
        exact ok_i (ok_i ⟨hA2, fun q _ => by rw [c2], fun j hj => by rw [c3], by rw [c1]; exact nI_nm1 (by omega)⟩)
      · rw [if_neg (show ¬ q.1 < lb1 by rw [g1, a1]; exact nI_nlt (by omega) (by omega)), if_neg (show ¬ z.1 < lb14 by rw [g2, a2]; exact nI_nlt (by omega) (by omega))]
        exact ok_i (ok_i ⟨Or.inr ⟨b, hb, a1, a2, a3⟩, fun q _ => rfl, fun j hj => rfl, hn1⟩)
  · omega
theorem aim_leaf_2 {C R Z l : Nat} {wnd : Int32} {F B V : Nat → Nat → Nat} {f1 v1 b1 h1 w f14 v14 b14 h14 : Nat → Int32} (hg : Gr C R Z F B V f1 v1 b1 f14 v14 b14) (w9 : w 9 = nI C) (w10 : w 10 = nI R) (w11 : w 11 = wnd) (hC : C ≤ 8) (hR : R ≤ 8) (hZ : Z ≤ 9999) (hl : l ≤ 64 * 2) : Ok (whl (fun (s20 : Int32 × Int32 × (Nat → Int32) × (Nat → Int32) × (Nat → Int32) × (Nat → Int32)) => f1_tries_2_s20 (nI C) (nI R) wnd s20.1 s20.2.1 s20.2.2.1 s20.2.2.2.1 s20.2.2.2.2.1 s20.2.2.2.2.2) FU ((2 : Int32), nI l, f1, v1, h1, b1)) (fun x => Ok (whl (fun (s37 : Int32 × Int32 × (Nat → Int32) × (Nat → Int32) × (Nat → Int32) × (Nat → Int32)) => f14_tryAims_s37 w s37.1 s37.2.1 s37.2.2.1 s37.2.2.2.1 s37.2.2.2.2.1 s37.2.2.2.2.2) FU ((2 : Int32), nI l, f14, b14, v14, h14)) (fun y => ∃ v : Nat, v ≤ 2000 ∧ x.1 = nI v ∧ y.1 = nI v)) := by
  refine for2_ok (fun i (x : Int32 × (Nat → Int32) × (Nat → Int32) × (Nat → Int32) × (Nat → Int32)) => (nI (2 + i), x)) (fun i (x : Int32 × (Nat → Int32) × (Nat → Int32) × (Nat → Int32) × (Nat → Int32)) => (nI (2 + i), x)) (fun i x y => (∃ v, v ≤ 64 * (2 + i) ∧ x.1 = nI v ∧ y.1 = nI v) ∧ ∃ F B V, Gr C R Z F B V x.2.1 x.2.2.1 x.2.2.2.2 y.2.1 y.2.2.2.1 y.2.2.1) (20 - 2) (by decide) ⟨⟨l, hl, rfl, rfl⟩, F, B, V, hg⟩ ?_ ?_
  · rintro i ⟨x1, x2, x3, x4, x5⟩ ⟨y1, y2, y3, y4, y5⟩ hi ⟨⟨v, hv, e1, e2⟩, F, B, V, hg⟩
    dsimp only at e1 e2 hg ⊢
    subst e1 e2
    unfold f1_tries_2_s20 f14_tryAims_s37
    rw [show (20 : Int32) = nI 20 from rfl, if_neg (nI_ge (show 2 + i < 20 by omega) (by decide)), if_neg (nI_ge (show 2 + i < 20 by omega) (by decide))]
    refine ok_b2 (minute_eq (t := 0) (p1 := -1) (p14 := -1) hg w9 w10 w11 hC hR (by omega) (by omega) (Or.inl ⟨rfl, rfl⟩) x4 y5) ?_
    rintro x' y' ⟨⟨l', hl', e1, e2⟩, F', B', V', hg'⟩
    rw [lt_is, lt_is, nI_1]
    exact ok_i (ok_i ⟨_, _, rfl, rfl, ⟨l', by omega, e1, e2⟩, F', B', V', hg'⟩)
  · rintro x y ⟨⟨v, hv, e1, e2⟩, -⟩
    dsimp only
    unfold f1_tries_2_s20 f14_tryAims_s37
    rw [show (20 : Int32) = nI 20 from rfl, if_pos (by decide), if_pos (by decide)]
    exact ok_i (ok_i ⟨_, _, rfl, rfl, v, by omega, e1, e2⟩)
theorem aim_next_2 {C R D t Z l : Nat} {wnd : Int32} {F B V : Nat → Nat → Nat} {w f14 v14 b14 h14 st row best14 : Nat → Int32} {lb1 lb14 : Int32} {f0 b0 v0 : Nat → Int32} {tt : Nat} {p4 p14 v : Int32} (hD : D ≤ 3) (hdD : 2 < D) (w9 : w 9 = nI C) (w10 : w 10 = nI R) (w11 : w 11 = wnd) (hC : C ≤ 8) (hR : R ≤ 8) (ht : t ≤ 999) (htt : tt ≤ 999) (hmt : f12_minute p4 (nI t) = f12_minute p4 (nI tt)) (hZ : Z ≤ 999 * 2) (hl : l ≤ 64 * 2) (hcel : Cel C R p4 p14) (l85 l102 l107 : Int32) (y : Nat) (y85 y107 : Option Nat) (f85 w85 h85 b85 f102 w102 b102 f107 w107 h107 b107 aims best : Nat → Int32) (hg : Gr C R Z F B V f102 w102 b102 f14 v14 b14) (hg0 : Gr C R Z F B V f102 w102 b102 f0 v0 b0) (hlay : Lay (C * R) 2 st f0 b0 v0) (hbl : l102 = nI l) (hrow : ∀ j, j < 2 → aims j = row j) (hA : AmR D lb1 lb14 best best14) :
    Ok (f1_next_2 (nI D) (nI t) p4 v y lb1 (nI C) (nI R) wnd l85 l102 l107 y85 y107 f85 w85 h85 b85 f102 w102 b102 f107 w107 h107 b107 aims best) (fun x => Ok (f14_minute p14 (nI tt) (nI l) w f14 b14 v14 h14) (fun m => Ok (fG_X14_tryAims 2 (nI 3) (nI t) m.1 lb14 (nI D) w m.2.1 m.2.2.1 m.2.2.2.1 m.2.2.2.2 st (upd row 2 v) best14) (fun z => Ok (f14_bringFire (nI 2) w z.2.2.1 z.2.2.2.1 z.2.2.2.2.1 z.2.2.2.2.2.2.1) (fun u => AmR D x.1 z.2.1 x.2.2.2.2.2.2.2.2.2.2.2.2.2.2 z.2.2.2.2.2.2.2.2 ∧ (Lay (C * R) 2 z.2.2.2.2.2.2.1 f0 b0 v0 ∧ ∀ q, q < 192 * 2 → z.2.2.2.2.2.2.1 q = st q) ∧ Gr C R Z F B V f102 w102 b102 u.1 u.2.2 u.2.1 ∧ (∀ j, j < 2 → x.2.2.2.2.2.2.2.2.2.2.2.2.2.1 j = aims j ∧ z.2.2.2.2.2.2.2.1 j = row j) ∧ ¬ z.2.1 = -1)))) := by
  unfold f1_next_2
  obtain ⟨x, ex, e1, hx⟩ := be_ok hg hC hR l102 l107 f107 w107 b107
  rw [ex, bind_is, hmt, e1, hbl]
  obtain ⟨mm, em, m, em14, ⟨l', hl', f1, f2⟩, F', B', V', hg'⟩ := minute_eq (t := tt) hx w9 w10 w11 hC hR (show Z + tt < 2 ^ 29 by omega) (show l < 2 ^ 29 by omega) hcel h107 h14
  rw [em, bind_is, gd_t (by decide), lt_is, show (2 : Int32).toNatClampNeg = 2 from rfl]
  have hrow' : ∀ j, j < 3 → upd aims 2 v j = upd row 2 v j := by
    intro j hj
    by_cases q : j = 2
    · subst q
      rw [pk_us, pk_us]
    · rw [pk_un q, pk_un q]
      exact hrow j (by omega)
  obtain ⟨r, er, z, ez, hA', hst, hro, hfo⟩ := aim_tries_3 (h14 := m.2.2.2.2) (st := st) (row := upd row 2 v) hD hdD w9 w10 w11 hC hR ht (show Z + tt ≤ 999 * 3 by omega) (show l' ≤ 64 * 3 by omega) l85 mm.1  y y85  f85 w85 h85 b85 mm.2.1 mm.2.2.1 mm.2.2.2.2  (upd aims 2 v) best hg' f1 hrow' hA
  · rw [er, bind_is]
    refine ok_i (ok_eq em14 ?_)
    rw [f2]
    refine ok_eq ez ?_
    have hlay' : Lay (C * R) 2 z.2.2.2.2.2.2.1 f0 b0 v0 := by
      intro k hk
      have hCR : C * R ≤ 8 * 8 := Nat.mul_le_mul hC hR
      obtain ⟨a1, a2, a3⟩ := hlay k hk
      exact ⟨(hst _ (by omega)).trans a1, (hst _ (by omega)).trans a2, (hst _ (by omega)).trans a3⟩
    obtain ⟨u, eu, hu⟩ := bring_ok (f := z.2.2.1) (b := z.2.2.2.1) (v := z.2.2.2.2.1) w9 w10 hC hR (show 2 ≤ 2 by decide) hlay'
    refine ok_eq eu ⟨hA', ⟨hlay', fun q hq => hst q (by omega)⟩, hg0.swap hC hR (fun k hk => ⟨(hu k hk).1, (hu k hk).2.1, (hu k hk).2.2⟩), fun j hj => ?_, hfo⟩
    have := hro j (by omega)
    rw [pk_un (by omega)] at this
    dsimp only
    rw [pk_un (by omega)]
    exact ⟨rfl, this⟩
theorem aim_tries_2 {C R D t Z l : Nat} {wnd : Int32} {F B V : Nat → Nat → Nat} {w f14 v14 b14 h14 st row best14 : Nat → Int32} {lb1 lb14 : Int32} (hD : D ≤ 3) (hdD : 2 ≤ D) (w9 : w 9 = nI C) (w10 : w 10 = nI R) (w11 : w 11 = wnd) (hC : C ≤ 8) (hR : R ≤ 8) (ht : t ≤ 999) (hZ : Z ≤ 999 * 2) (hl : l ≤ 64 * 2) (l85 l102 l107 : Int32) (y : Nat) (y85 y107 : Option Nat) (f85 w85 h85 b85 f102 w102 b102 f107 w107 h107 b107 aims best : Nat → Int32) (hg : Gr C R Z F B V f102 w102 b102 f14 v14 b14) (hbl : l102 = nI l) (hrow : ∀ j, j < 2 → aims j = row j) (hA : AmR D lb1 lb14 best best14) :
    Ok (f1_tries_2 (nI D) (nI t) y lb1 (nI C) (nI R) wnd l85 l102 l107 y85 y107 f85 w85 h85 b85 f102 w102 b102 f107 w107 h107 b107 aims best) (fun x => Ok (fG_X14_tryAims 3 (nI 2) (nI t) (nI l) lb14 (nI D) w f14 b14 v14 h14 st row best14) (fun z => AmR D x.1 z.2.1 x.2.2.2.2.2.2.2.2.2.2.2.2.2.2 z.2.2.2.2.2.2.2.2 ∧ (∀ q, q < 192 * 2 → z.2.2.2.2.2.2.1 q = st q) ∧ (∀ j, j < 2 → x.2.2.2.2.2.2.2.2.2.2.2.2.2.1 j = aims j ∧ z.2.2.2.2.2.2.2.1 j = row j) ∧ ¬ z.2.1 = -1)) := by
  show Ok (f1_tries_2 (nI D) (nI t) y lb1 (nI C) (nI R) wnd l85 l102 l107 y85 y107 f85 w85 h85 b85 f102 w102 b102 f107 w107 h107 b107 aims best) (fun x => Ok (fb14_tryAims (fG_X14_tryAims 2) (nI 2) (nI t) (nI l) lb14 (nI D) w f14 b14 v14 h14 st row best14) _)
  unfold f1_tries_2 fb14_tryAims
  by_cases hp : 2 = D
  · subst hp
    rw [if_pos (show (2 : Int32) = nI 2 from rfl), if_pos rfl]
    obtain ⟨x, ex, e1, hx⟩ := be_ok hg hC hR l102 l85 f85 w85 b85
    rw [ex, bind_is, e1, hbl]
    refine ok_b2 (aim_leaf_2 (h1 := h85) (h14 := h14) hx w9 w10 w11 hC hR (by omega) hl) ?_
    rintro q z ⟨v, hv, g1, g2⟩
    unfold f1_tries_2_e20_0 f14_tryAims_e37_0
    obtain ⟨z9, ez, c1, c2, c3, c4⟩ := aim_leaf14 (D := 2) (by decide) (st := st) (row := row) (best := best14) (x := z)
    rw [g2] at c1
    have hcp : cp_ok (0 : Int32) (0 : Int32) (2 : Int32) 3 3 := cp_n (n := 2) (by decide) (by decide) (by decide)
    have hnew : ∀ (e : AmR 2 q.1 z9.2.1 (va_cpy aims best (0 : Int32).toNatClampNeg (0 : Int32).toNatClampNeg (2 : Int32).toNatClampNeg) z9.2.2.2.2.2.2.2.2), True := fun _ => trivial
    have hA2 : AmR 2 q.1 z9.2.1 (va_cpy aims best (0 : Int32).toNatClampNeg (0 : Int32).toNatClampNeg (2 : Int32).toNatClampNeg) z9.2.2.2.2.2.2.2.2 := Or.inr ⟨v, hv, g1, c1, fun j hj => (cpy_at (n := 2) (by decide) hj).trans ((hrow j hj).trans (c4 j hj).symm)⟩
    rcases hA with ⟨a1, a2⟩ | ⟨b, hb, a1, a2, a3⟩
    · rw [if_pos (show q.1 < lb1 by rw [g1, a1]; exact nI_lt (by omega) (by omega)), if_pos a2, ez, gd_t hcp, lt_is]
      exact ok_i (ok_i ⟨hA2, fun q _ => by rw [c2], fun j hj => ⟨rfl, by rw [c3]⟩, by rw [c1]; exact nI_nm1 (by omega)⟩)
    · have hn1 : ¬ lb14 = -1 := by
        rw [a2]
        exact nI_nm1 (by omega)
      rw [if_neg hn1]
      by_cases hvb : v < b
      · rw [if_pos (show q.1 < lb1 by rw [g1, a1]; exact nI_lt hvb (by omega)), if_pos (show z.1 < lb14 by rw [g2, a2]; exact nI_lt hvb (by omega)), ez, gd_t hcp, lt_is]
        exact ok_i (ok_i ⟨hA2, fun q _ => by rw [c2], fun j hj => ⟨rfl, by rw [c3]⟩, by rw [c1]; exact nI_nm1 (by omega)⟩)
      · rw [if_neg (show ¬ q.1 < lb1 by rw [g1, a1]; exact nI_nlt (by omega) (by omega)), if_neg (show ¬ z.1 < lb14 by rw [g2, a2]; exact nI_nlt (by omega) (by omega))]
        exact ok_i (ok_i ⟨Or.inr ⟨b, hb, a1, a2, a3⟩, fun q _ => rfl, fun j hj => ⟨rfl, rfl⟩, hn1⟩)
  · rw [if_neg (show ¬ (2 : Int32) = nI D from fun h => hp ((nI_eq (a := 2) (by decide) (by omega)).mp h)), if_neg (fun h => hp ((nI_eq (by decide) (by omega)).mp h))]
    obtain ⟨k0, ek, hlay, hk0⟩ := keep_ok (f := f14) (b := b14) (v := v14) (st := st) w9 w10 hC hR (show 2 ≤ 2 by decide)
    have hCR : C * R ≤ 8 * 8 := Nat.mul_le_mul hC hR
    rw [ek, bind_is]
    refine ok_b2 (S := fun (x : Int32 × Int32 × Int32 × (Option Nat) × (Option Nat) × (Nat → Int32) × (Nat → Int32) × (Nat → Int32) × (Nat → Int32) × (Nat → Int32) × (Nat → Int32) × (Nat → Int32) × (Nat → Int32) × (Nat → Int32) × (Nat → Int32)) (z : Int32 × Int32 × (Nat → Int32) × (Nat → Int32) × (Nat → Int32) × (Nat → Int32) × (Nat → Int32) × (Nat → Int32) × (Nat → Int32)) => z.1 = nI l ∧ AmR D x.1 z.2.1 x.2.2.2.2.2.2.2.2.2.2.2.2.2.2 z.2.2.2.2.2.2.2.2 ∧ (Lay (C * R) 2 z.2.2.2.2.2.2.1 f14 b14 v14 ∧ ∀ q, q < 192 * 2 → z.2.2.2.2.2.2.1 q = st q) ∧ Gr C R Z F B V f102 w102 b102 z.2.2.1 z.2.2.2.2.1 z.2.2.2.1 ∧ (∀ j, j < 2 → x.2.2.2.2.2.2.2.2.2.2.2.2.2.1 j = aims j ∧ z.2.2.2.2.2.2.2.1 j = row j)) ?_ ?_
    · refine ok_gridx (fun j (x : Int32 × Int32 × Int32 × Int32 × (Option Nat) × (Option Nat) × (Nat → Int32) × (Nat → Int32) × (Nat → Int32) × (Nat → Int32) × (Nat → Int32) × (Nat → Int32) × (Nat → Int32) × (Nat → Int32) × (Nat → Int32) × (Nat → Int32)) => (x.1, nI j, x.2)) (fun k (z : Int32 × Int32 × Int32 × (Nat → Int32) × (Nat → Int32) × (Nat → Int32) × (Nat → Int32) × (Nat → Int32) × (Nat → Int32) × (Nat → Int32)) => (z.1, nI k, z.2)) (fun j x z => (∃ c : Nat, c ≤ 8 ∧ x.1 = nI c ∧ z.1 = nI c) ∧ (fun (x : Int32 × Int32 × Int32 × (Option Nat) × (Option Nat) × (Nat → Int32) × (Nat → Int32) × (Nat → Int32) × (Nat → Int32) × (Nat → Int32) × (Nat → Int32) × (Nat → Int32) × (Nat → Int32) × (Nat → Int32) × (Nat → Int32)) (z : Int32 × Int32 × (Nat → Int32) × (Nat → Int32) × (Nat → Int32) × (Nat → Int32) × (Nat → Int32) × (Nat → Int32) × (Nat → Int32)) => z.1 = nI l ∧ AmR D x.1 z.2.1 x.2.2.2.2.2.2.2.2.2.2.2.2.2.2 z.2.2.2.2.2.2.2.2 ∧ (Lay (C * R) 2 z.2.2.2.2.2.2.1 f14 b14 v14 ∧ ∀ q, q < 192 * 2 → z.2.2.2.2.2.2.1 q = st q) ∧ Gr C R Z F B V f102 w102 b102 z.2.2.1 z.2.2.2.2.1 z.2.2.2.1 ∧ (∀ j, j < 2 → x.2.2.2.2.2.2.2.2.2.2.2.2.2.1 j = aims j ∧ z.2.2.2.2.2.2.2.1 j = row j)) x.2 z.2) hC hR (x := ((0 : Int32), lb1, l85, l107, y85, y107, f85, w85, h85, b85, f107, w107, h107, b107, aims, best)) (x2 := ((0 : Int32), nI l, lb14, f14, b14, v14, h14, k0, row, best14)) ⟨⟨0, by decide, rfl, rfl⟩, rfl, hA, ⟨hlay, hk0⟩, hg, fun j hj => ⟨rfl, rfl⟩⟩ ?_ ?_ ?_
      · rintro r c ⟨x1, x⟩ ⟨z1, z⟩ hr hc ⟨⟨n, hn, e1, e2⟩, e3, hA', ⟨hL, hq⟩, hg', hro⟩
        dsimp only at e1 e2 e3 hA' hL hq hg' hro ⊢
        subst e1 e2
        have hlt := cell_lt hC hR hr hc
        unfold f1_tries_2_s2 f14_tryAims_s3
        rw [show (64 : Int32) = nI 64 from rfl, show (8 : Int32) = nI 8 from rfl, if_neg (nI_ge (show 8 * r + c < 64 by omega) (by decide)), cells_is w9 w10, bind_is, if_neg (nI_ge hlt.1 (by omega))]
        by_cases h8 : 8 ≤ n
        · rw [if_pos (nI_le h8 (by omega)), if_pos (nI_le h8 (by omega))]
          exact ok_i (ok_i (Or.inr ⟨_, _, rfl, rfl, e3, hA', ⟨hL, hq⟩, hg', hro⟩))
        · rw [if_neg (nI_ge (by omega) (by omega)), if_neg (nI_ge (by omega) (by omega))]
          obtain ⟨⟨-, hB, -⟩, -, ⟨g3, -⟩, -⟩ := hg.1 r c hr hc
          obtain ⟨-, -, ⟨-, g4⟩, -⟩ := hg.1 r c hr hc
          have k1 : (nI (8 * r + c)).toNatClampNeg = 8 * r + c := nI_clamp (by omega)
          have k2 : (nI (192 * 2 + 3 * (C * r + c) + 1)).toNatClampNeg = 192 * 2 + 3 * (C * r + c) + 1 := nI_clamp (by omega)
          have k3 : z.2.2.2.2.2.2.1 (192 * 2 + 3 * (C * r + c) + 1) = nI (B r c) := (hL _ hlt.1).2.1.trans g4
          simp only [lt_is, z_192, z_3, pk_mul, nI_add, nI_1, gd_t (inb_nI (show 8 * r + c < 64 by omega) (by decide)), gd_t (inb_nI (show 192 * 2 + 3 * (C * r + c) + 1 < 576 by omega) (by decide)), k1, k2, k3, g3]
          rcases hB with hB | ⟨hB, -⟩
          · rw [if_pos (show nI (B r c) = 0 by rw [hB]; rfl), if_pos (show nI (B r c) = 0 by rw [hB]; rfl)]
            unfold f1_tries_2_j151 f14_tryAims_j192
            rw [lt_is, lt_is, nI_1, nI_1]
            exact ok_i (ok_i (Or.inl ⟨(_, x), (_, z), rfl, rfl, ⟨n, by omega, rfl, rfl⟩, e3, hA', ⟨hL, hq⟩, hg', hro⟩))
          · rw [if_neg (show ¬ nI (B r c) = 0 by rw [hB]; decide), if_neg (show ¬ nI (B r c) = 0 by rw [hB]; decide)]
            have hC0 : 0 < C := by omega
            have e5 : nI (8 * r + c) / nI 8 = nI r := by
              rw [pk_div (by omega) (by decide) (by decide), show (8 * r + c) / 8 = r by omega]
            have e6 : nI (8 * r + c) - nI (8 * r + c) / nI 8 * nI 8 = nI c := by
              rw [pk_rem (by omega) (by decide) (by decide), show (8 * r + c) % 8 = c by omega]
            rw [e5] at e6
            have e7 : nI (C * r + c) / nI C = nI r := by
              rw [pk_div (by omega) hC0 (by omega), Nat.mul_add_div hC0, Nat.div_eq_of_lt hc, Nat.add_zero]
            have e8 : nI (C * r + c) - nI (C * r + c) / nI C * nI C = nI c := by
              rw [pk_rem (by omega) hC0 (by omega), Nat.mul_add_mod, Nat.mod_eq_of_lt hc]
            rw [e7] at e8
            obtain ⟨a, ea, mm, em, zz, ez, u, eu, n1, ⟨n2, n3⟩, n4, n5, n6⟩ := aim_next_2 (tt := t) (p4 := nI (8 * r + c)) (p14 := nI (C * r + c)) (v := 100 + 10 * nI r + nI c) (h14 := z.2.2.2.2.2.1) (st := z.2.2.2.2.2.2.1) (row := z.2.2.2.2.2.2.2.1) hD (by omega) w9 w10 w11 hC hR ht ht rfl hZ hl (Or.inr ⟨r, c, hr, hc, rfl, rfl⟩) x.2.1 l102 x.2.2.1 y x.2.2.2.1 x.2.2.2.2.1 x.2.2.2.2.2.1 x.2.2.2.2.2.2.1 x.2.2.2.2.2.2.2.1 x.2.2.2.2.2.2.2.2.1 f102 w102 b102 x.2.2.2.2.2.2.2.2.2.1 x.2.2.2.2.2.2.2.2.2.2.1 x.2.2.2.2.2.2.2.2.2.2.2.1 x.2.2.2.2.2.2.2.2.2.2.2.2.1 x.2.2.2.2.2.2.2.2.2.2.2.2.2.1 x.2.2.2.2.2.2.2.2.2.2.2.2.2.2 hg' hg hL hbl (fun j hj => (hro j hj).1.trans ((hrow j hj).trans (hro j hj).2.symm)) hA'
            have kd : (nI 2).toNatClampNeg = 2 := nI_clamp (by decide)
            simp only [columns_is, w9, bind_is, gd_t (show ¬ nI 8 = 0 by decide), gd_t (nI_ne0 hC0 (show C < 2 ^ 31 by omega)), gd_t (show inb (nI 2) 3 by decide), e6, e5, e8, e7, kd, e3]
            rw [ea, bind_is, em, bind_is]
            rw [ez, bind_is, eu, bind_is]
            unfold f1_tries_2_j151 f14_tryAims_j192
            rw [lt_is, lt_is, nI_1, nI_1]
            exact ok_i (ok_i (Or.inl ⟨(_, a), (_, nI l, _, _, _, _, _, _, _, _), rfl, rfl, ⟨n + 1, by omega, rfl, rfl⟩, rfl, n1, ⟨n2, fun q hq' => (n3 q hq').trans (hq q hq')⟩, n4, fun j hj => ⟨(n5 j hj).1.trans (hro j hj).1, (n5 j hj).2.trans (hro j hj).2⟩⟩))
      · rintro j ⟨x1, x⟩ ⟨z1, z⟩ hj hn ⟨⟨n, hn8, e1, e2⟩, e3, hA', ⟨hL, hq⟩, hg', hro⟩
        dsimp only at e1 e2 e3 hA' hL hq hg' hro ⊢
        subst e1 e2
        unfold f1_tries_2_s2
        rw [show (64 : Int32) = nI 64 from rfl, show (8 : Int32) = nI 8 from rfl, if_neg (nI_ge hj (by decide))]
        by_cases h8 : 8 ≤ n
        · rw [if_pos (nI_le h8 (by omega))]
          refine ok_i (Or.inr ⟨_, rfl, fun k hk => ?_⟩)
          unfold f14_tryAims_s3
          rw [cells_is w9 w10, bind_is]
          by_cases hkC : C * R ≤ k
          · rw [if_pos (nI_le hkC (by omega))]
            exact ok_i ⟨_, rfl, e3, hA', ⟨hL, hq⟩, hg', hro⟩
          · rw [if_neg (nI_ge (by omega) (by omega)), show (8 : Int32) = nI 8 from rfl, if_pos (nI_le h8 (by omega))]
            exact ok_i ⟨_, rfl, e3, hA', ⟨hL, hq⟩, hg', hro⟩
        · rw [if_neg (nI_ge (by omega) (by omega))]
          have k1 : (nI j).toNatClampNeg = j := nI_clamp (by omega)
          simp only [lt_is, gd_t (inb_nI (show j < 64 by omega) (by decide)), k1, hg.2 j hj hn]
          rw [if_pos trivial]
          unfold f1_tries_2_j151
          rw [lt_is, nI_1]
          exact ok_i (Or.inl ⟨(_, x), rfl, ⟨n, hn8, rfl, rfl⟩, e3, hA', ⟨hL, hq⟩, hg', hro⟩)
      · rintro x z ⟨-, h⟩
        dsimp only
        unfold f1_tries_2_s2 f14_tryAims_s3
        rw [show (64 : Int32) = nI 64 from rfl, if_pos (nI_le (Nat.le_refl _) (by decide)), cells_is w9 w10, bind_is, if_pos (nI_le (Nat.le_refl _) (by omega))]
        exact ok_i (ok_i ⟨_, _, rfl, rfl, h⟩)
    · rintro x z ⟨e3, hA', ⟨hL, hq⟩, hg', hro⟩
      unfold f1_tries_2_e2_0 f14_tryAims_e3_0
      obtain ⟨a, ea, mm, em, zz, ez, u, eu, n1, ⟨n2, n3⟩, n4, n5, n6⟩ := aim_next_2 (tt := 0) (p4 := -1) (p14 := -1) (v := 0) (h14 := z.2.2.2.2.2.1) (st := z.2.2.2.2.2.2.1) (row := z.2.2.2.2.2.2.2.1) hD (by omega) w9 w10 w11 hC hR ht (by decide) (min_no t) hZ hl (Or.inl ⟨rfl, rfl⟩) x.2.1 l102 x.2.2.1 y x.2.2.2.1 x.2.2.2.2.1 x.2.2.2.2.2.1 x.2.2.2.2.2.2.1 x.2.2.2.2.2.2.2.1 x.2.2.2.2.2.2.2.2.1 f102 w102 b102 x.2.2.2.2.2.2.2.2.2.1 x.2.2.2.2.2.2.2.2.2.2.1 x.2.2.2.2.2.2.2.2.2.2.2.1 x.2.2.2.2.2.2.2.2.2.2.2.2.1 x.2.2.2.2.2.2.2.2.2.2.2.2.2.1 x.2.2.2.2.2.2.2.2.2.2.2.2.2.2 hg' hg hL hbl (fun j hj => (hro j hj).1.trans ((hrow j hj).trans (hro j hj).2.symm)) hA'
      have kd : (nI 2).toNatClampNeg = 2 := nI_clamp (by decide)
      have em' : f14_minute (-1) 0 (nI l) w z.2.2.1 z.2.2.2.1 z.2.2.2.2.1 z.2.2.2.2.2.1 = some mm := em
      rw [e3, ea, bind_is]
      simp only [gd_t (show inb (nI 2) 3 by decide), lt_is, nI_1, kd, em', bind_is]
      rw [ez, bind_is, eu, bind_is]
      exact ok_i (ok_i ⟨n1, fun q hq' => (n3 q hq').trans (hq q hq'), fun j hj => ⟨(n5 j hj).1.trans (hro j hj).1, (n5 j hj).2.trans (hro j hj).2⟩, n6⟩)
theorem aim_leaf_1 {C R Z l : Nat} {wnd : Int32} {F B V : Nat → Nat → Nat} {f1 v1 b1 h1 w f14 v14 b14 h14 : Nat → Int32} (hg : Gr C R Z F B V f1 v1 b1 f14 v14 b14) (w9 : w 9 = nI C) (w10 : w 10 = nI R) (w11 : w 11 = wnd) (hC : C ≤ 8) (hR : R ≤ 8) (hZ : Z ≤ 9999) (hl : l ≤ 64 * 1) : Ok (whl (fun (s20 : Int32 × Int32 × (Nat → Int32) × (Nat → Int32) × (Nat → Int32) × (Nat → Int32)) => f1_tries_1_s20 (nI C) (nI R) wnd s20.1 s20.2.1 s20.2.2.1 s20.2.2.2.1 s20.2.2.2.2.1 s20.2.2.2.2.2) FU ((1 : Int32), nI l, f1, v1, h1, b1)) (fun x => Ok (whl (fun (s37 : Int32 × Int32 × (Nat → Int32) × (Nat → Int32) × (Nat → Int32) × (Nat → Int32)) => f14_tryAims_s37 w s37.1 s37.2.1 s37.2.2.1 s37.2.2.2.1 s37.2.2.2.2.1 s37.2.2.2.2.2) FU ((1 : Int32), nI l, f14, b14, v14, h14)) (fun y => ∃ v : Nat, v ≤ 2000 ∧ x.1 = nI v ∧ y.1 = nI v)) := by
  refine for2_ok (fun i (x : Int32 × (Nat → Int32) × (Nat → Int32) × (Nat → Int32) × (Nat → Int32)) => (nI (1 + i), x)) (fun i (x : Int32 × (Nat → Int32) × (Nat → Int32) × (Nat → Int32) × (Nat → Int32)) => (nI (1 + i), x)) (fun i x y => (∃ v, v ≤ 64 * (1 + i) ∧ x.1 = nI v ∧ y.1 = nI v) ∧ ∃ F B V, Gr C R Z F B V x.2.1 x.2.2.1 x.2.2.2.2 y.2.1 y.2.2.2.1 y.2.2.1) (20 - 1) (by decide) ⟨⟨l, hl, rfl, rfl⟩, F, B, V, hg⟩ ?_ ?_
  · rintro i ⟨x1, x2, x3, x4, x5⟩ ⟨y1, y2, y3, y4, y5⟩ hi ⟨⟨v, hv, e1, e2⟩, F, B, V, hg⟩
    dsimp only at e1 e2 hg ⊢
    subst e1 e2
    unfold f1_tries_1_s20 f14_tryAims_s37
    rw [show (20 : Int32) = nI 20 from rfl, if_neg (nI_ge (show 1 + i < 20 by omega) (by decide)), if_neg (nI_ge (show 1 + i < 20 by omega) (by decide))]
    refine ok_b2 (minute_eq (t := 0) (p1 := -1) (p14 := -1) hg w9 w10 w11 hC hR (by omega) (by omega) (Or.inl ⟨rfl, rfl⟩) x4 y5) ?_
    rintro x' y' ⟨⟨l', hl', e1, e2⟩, F', B', V', hg'⟩
    rw [lt_is, lt_is, nI_1]
    exact ok_i (ok_i ⟨_, _, rfl, rfl, ⟨l', by omega, e1, e2⟩, F', B', V', hg'⟩)
  · rintro x y ⟨⟨v, hv, e1, e2⟩, -⟩
    dsimp only
    unfold f1_tries_1_s20 f14_tryAims_s37
    rw [show (20 : Int32) = nI 20 from rfl, if_pos (by decide), if_pos (by decide)]
    exact ok_i (ok_i ⟨_, _, rfl, rfl, v, by omega, e1, e2⟩)
theorem aim_next_1 {C R D t Z l : Nat} {wnd : Int32} {F B V : Nat → Nat → Nat} {w f14 v14 b14 h14 st row best14 : Nat → Int32} {lb1 lb14 : Int32} {f0 b0 v0 : Nat → Int32} {tt : Nat} {p4 p14 v : Int32} (hD : D ≤ 3) (hdD : 1 < D) (w9 : w 9 = nI C) (w10 : w 10 = nI R) (w11 : w 11 = wnd) (hC : C ≤ 8) (hR : R ≤ 8) (ht : t ≤ 999) (htt : tt ≤ 999) (hmt : f12_minute p4 (nI t) = f12_minute p4 (nI tt)) (hZ : Z ≤ 999 * 1) (hl : l ≤ 64 * 1) (hcel : Cel C R p4 p14) (l85 l97 l102 l107 : Int32) (y : Nat) (y85 y102 y107 : Option Nat) (f85 w85 h85 b85 f97 w97 b97 f102 w102 h102 b102 f107 w107 h107 b107 aims best : Nat → Int32) (hg : Gr C R Z F B V f97 w97 b97 f14 v14 b14) (hg0 : Gr C R Z F B V f97 w97 b97 f0 v0 b0) (hlay : Lay (C * R) 1 st f0 b0 v0) (hbl : l97 = nI l) (hrow : ∀ j, j < 1 → aims j = row j) (hA : AmR D lb1 lb14 best best14) :
    Ok (f1_next_1 (nI D) (nI t) p4 v y lb1 (nI C) (nI R) wnd l85 l97 l102 l107 y85 y102 y107 f85 w85 h85 b85 f97 w97 b97 f102 w102 h102 b102 f107 w107 h107 b107 aims best) (fun x => Ok (f14_minute p14 (nI tt) (nI l) w f14 b14 v14 h14) (fun m => Ok (fG_X14_tryAims 3 (nI 2) (nI t) m.1 lb14 (nI D) w m.2.1 m.2.2.1 m.2.2.2.1 m.2.2.2.2 st (upd row 1 v) best14) (fun z => Ok (f14_bringFire (nI 1) w z.2.2.1 z.2.2.2.1 z.2.2.2.2.1 z.2.2.2.2.2.2.1) (fun u => AmR D x.1 z.2.1 x.2.2.2.2.2.2.2.2.2.2.2.2.2.2.2.2.2.2.2.2 z.2.2.2.2.2.2.2.2 ∧ (Lay (C * R) 1 z.2.2.2.2.2.2.1 f0 b0 v0 ∧ ∀ q, q < 192 * 1 → z.2.2.2.2.2.2.1 q = st q) ∧ Gr C R Z F B V f97 w97 b97 u.1 u.2.2 u.2.1 ∧ (∀ j, j < 1 → x.2.2.2.2.2.2.2.2.2.2.2.2.2.2.2.2.2.2.2.1 j = aims j ∧ z.2.2.2.2.2.2.2.1 j = row j) ∧ ¬ z.2.1 = -1)))) := by
  unfold f1_next_1
  obtain ⟨x, ex, e1, hx⟩ := be_ok hg hC hR l97 l102 f102 w102 b102
  rw [ex, bind_is, hmt, e1, hbl]
  obtain ⟨mm, em, m, em14, ⟨l', hl', f1, f2⟩, F', B', V', hg'⟩ := minute_eq (t := tt) hx w9 w10 w11 hC hR (show Z + tt < 2 ^ 29 by omega) (show l < 2 ^ 29 by omega) hcel h102 h14
  rw [em, bind_is, gd_t (by decide), lt_is, show (1 : Int32).toNatClampNeg = 1 from rfl]
  have hrow' : ∀ j, j < 2 → upd aims 1 v j = upd row 1 v j := by
    intro j hj
    by_cases q : j = 1
    · subst q
      rw [pk_us, pk_us]
    · rw [pk_un q, pk_un q]
      exact hrow j (by omega)
  obtain ⟨r, er, z, ez, hA', hst, hro, hfo⟩ := aim_tries_2 (h14 := m.2.2.2.2) (st := st) (row := upd row 1 v) hD hdD w9 w10 w11 hC hR ht (show Z + tt ≤ 999 * 2 by omega) (show l' ≤ 64 * 2 by omega) l85 mm.1 l107 y y85 y107 f85 w85 h85 b85 mm.2.1 mm.2.2.1 mm.2.2.2.2 f107 w107 h107 b107 (upd aims 1 v) best hg' f1 hrow' hA
  · rw [er, bind_is]
    refine ok_i (ok_eq em14 ?_)
    rw [f2]
    refine ok_eq ez ?_
    have hlay' : Lay (C * R) 1 z.2.2.2.2.2.2.1 f0 b0 v0 := by
      intro k hk
      have hCR : C * R ≤ 8 * 8 := Nat.mul_le_mul hC hR
      obtain ⟨a1, a2, a3⟩ := hlay k hk
      exact ⟨(hst _ (by omega)).trans a1, (hst _ (by omega)).trans a2, (hst _ (by omega)).trans a3⟩
    obtain ⟨u, eu, hu⟩ := bring_ok (f := z.2.2.1) (b := z.2.2.2.1) (v := z.2.2.2.2.1) w9 w10 hC hR (show 1 ≤ 2 by decide) hlay'
    refine ok_eq eu ⟨hA', ⟨hlay', fun q hq => hst q (by omega)⟩, hg0.swap hC hR (fun k hk => ⟨(hu k hk).1, (hu k hk).2.1, (hu k hk).2.2⟩), fun j hj => ?_, hfo⟩
    have := hro j (by omega)
    rw [pk_un (by omega), pk_un (by omega)] at this
    exact this
theorem aim_tries_1 {C R D t Z l : Nat} {wnd : Int32} {F B V : Nat → Nat → Nat} {w f14 v14 b14 h14 st row best14 : Nat → Int32} {lb1 lb14 : Int32} (hD : D ≤ 3) (hdD : 1 ≤ D) (w9 : w 9 = nI C) (w10 : w 10 = nI R) (w11 : w 11 = wnd) (hC : C ≤ 8) (hR : R ≤ 8) (ht : t ≤ 999) (hZ : Z ≤ 999 * 1) (hl : l ≤ 64 * 1) (l85 l97 l102 l107 : Int32) (y : Nat) (y85 y102 y107 : Option Nat) (f85 w85 h85 b85 f97 w97 b97 f102 w102 h102 b102 f107 w107 h107 b107 aims best : Nat → Int32) (hg : Gr C R Z F B V f97 w97 b97 f14 v14 b14) (hbl : l97 = nI l) (hrow : ∀ j, j < 1 → aims j = row j) (hA : AmR D lb1 lb14 best best14) :
    Ok (f1_tries_1 (nI D) (nI t) y lb1 (nI C) (nI R) wnd l85 l97 l102 l107 y85 y102 y107 f85 w85 h85 b85 f97 w97 b97 f102 w102 h102 b102 f107 w107 h107 b107 aims best) (fun x => Ok (fG_X14_tryAims 4 (nI 1) (nI t) (nI l) lb14 (nI D) w f14 b14 v14 h14 st row best14) (fun z => AmR D x.1 z.2.1 x.2.2.2.2.2.2.2.2.2.2.2.2.2.2.2.2.2.2.2.2 z.2.2.2.2.2.2.2.2 ∧ (∀ q, q < 192 * 1 → z.2.2.2.2.2.2.1 q = st q) ∧ (∀ j, j < 1 → x.2.2.2.2.2.2.2.2.2.2.2.2.2.2.2.2.2.2.2.1 j = aims j ∧ z.2.2.2.2.2.2.2.1 j = row j) ∧ ¬ z.2.1 = -1)) := by
  show Ok (f1_tries_1 (nI D) (nI t) y lb1 (nI C) (nI R) wnd l85 l97 l102 l107 y85 y102 y107 f85 w85 h85 b85 f97 w97 b97 f102 w102 h102 b102 f107 w107 h107 b107 aims best) (fun x => Ok (fb14_tryAims (fG_X14_tryAims 3) (nI 1) (nI t) (nI l) lb14 (nI D) w f14 b14 v14 h14 st row best14) _)
  unfold f1_tries_1 fb14_tryAims
  by_cases hp : 1 = D
  · subst hp
    rw [if_pos (show (1 : Int32) = nI 1 from rfl), if_pos rfl]
    obtain ⟨x, ex, e1, hx⟩ := be_ok hg hC hR l97 l85 f85 w85 b85
    rw [ex, bind_is, e1, hbl]
    refine ok_b2 (aim_leaf_1 (h1 := h85) (h14 := h14) hx w9 w10 w11 hC hR (by omega) hl) ?_
    rintro q z ⟨v, hv, g1, g2⟩
    unfold f1_tries_1_e20_0 f14_tryAims_e37_0
    obtain ⟨z9, ez, c1, c2, c3, c4⟩ := aim_leaf14 (D := 1) (by decide) (st := st) (row := row) (best := best14) (x := z)
    rw [g2] at c1
    have hcp : cp_ok (0 : Int32) (0 : Int32) (1 : Int32) 3 3 := cp_n (n := 1) (by decide) (by decide) (by decide)
    have hnew : ∀ (e : AmR 1 q.1 z9.2.1 (va_cpy aims best (0 : Int32).toNatClampNeg (0 : Int32).toNatClampNeg (1 : Int32).toNatClampNeg) z9.2.2.2.2.2.2.2.2), True := fun _ => trivial
    have hA2 : AmR 1 q.1 z9.2.1 (va_cpy aims best (0 : Int32).toNatClampNeg (0 : Int32).toNatClampNeg (1 : Int32).toNatClampNeg) z9.2.2.2.2.2.2.2.2 := Or.inr ⟨v, hv, g1, c1, fun j hj => (cpy_at (n := 1) (by decide) hj).trans ((hrow j hj).trans (c4 j hj).symm)⟩
    rcases hA with ⟨a1, a2⟩ | ⟨b, hb, a1, a2, a3⟩
    · rw [if_pos (show q.1 < lb1 by rw [g1, a1]; exact nI_lt (by omega) (by omega)), if_pos a2, ez, gd_t hcp, lt_is]
      exact ok_i (ok_i ⟨hA2, fun q _ => by rw [c2], fun j hj => ⟨rfl, by rw [c3]⟩, by rw [c1]; exact nI_nm1 (by omega)⟩)
    · have hn1 : ¬ lb14 = -1 := by
        rw [a2]
        exact nI_nm1 (by omega)
      rw [if_neg hn1]
      by_cases hvb : v < b
      · rw [if_pos (show q.1 < lb1 by rw [g1, a1]; exact nI_lt hvb (by omega)), if_pos (show z.1 < lb14 by rw [g2, a2]; exact nI_lt hvb (by omega)), ez, gd_t hcp, lt_is]
        exact ok_i (ok_i ⟨hA2, fun q _ => by rw [c2], fun j hj => ⟨rfl, by rw [c3]⟩, by rw [c1]; exact nI_nm1 (by omega)⟩)
      · rw [if_neg (show ¬ q.1 < lb1 by rw [g1, a1]; exact nI_nlt (by omega) (by omega)), if_neg (show ¬ z.1 < lb14 by rw [g2, a2]; exact nI_nlt (by omega) (by omega))]
        exact ok_i (ok_i ⟨Or.inr ⟨b, hb, a1, a2, a3⟩, fun q _ => rfl, fun j hj => ⟨rfl, rfl⟩, hn1⟩)
  · rw [if_neg (show ¬ (1 : Int32) = nI D from fun h => hp ((nI_eq (a := 1) (by decide) (by omega)).mp h)), if_neg (fun h => hp ((nI_eq (by decide) (by omega)).mp h))]
    obtain ⟨k0, ek, hlay, hk0⟩ := keep_ok (f := f14) (b := b14) (v := v14) (st := st) w9 w10 hC hR (show 1 ≤ 2 by decide)
    have hCR : C * R ≤ 8 * 8 := Nat.mul_le_mul hC hR
    rw [ek, bind_is]
    refine ok_b2 (S := fun (x : Int32 × Int32 × Int32 × Int32 × (Option Nat) × (Option Nat) × (Option Nat) × (Nat → Int32) × (Nat → Int32) × (Nat → Int32) × (Nat → Int32) × (Nat → Int32) × (Nat → Int32) × (Nat → Int32) × (Nat → Int32) × (Nat → Int32) × (Nat → Int32) × (Nat → Int32) × (Nat → Int32) × (Nat → Int32) × (Nat → Int32)) (z : Int32 × Int32 × (Nat → Int32) × (Nat → Int32) × (Nat → Int32) × (Nat → Int32) × (Nat → Int32) × (Nat → Int32) × (Nat → Int32)) => z.1 = nI l ∧ AmR D x.1 z.2.1 x.2.2.2.2.2.2.2.2.2.2.2.2.2.2.2.2.2.2.2.2 z.2.2.2.2.2.2.2.2 ∧ (Lay (C * R) 1 z.2.2.2.2.2.2.1 f14 b14 v14 ∧ ∀ q, q < 192 * 1 → z.2.2.2.2.2.2.1 q = st q) ∧ Gr C R Z F B V f97 w97 b97 z.2.2.1 z.2.2.2.2.1 z.2.2.2.1 ∧ (∀ j, j < 1 → x.2.2.2.2.2.2.2.2.2.2.2.2.2.2.2.2.2.2.2.1 j = aims j ∧ z.2.2.2.2.2.2.2.1 j = row j)) ?_ ?_
    · refine ok_gridx (fun j (x : Int32 × Int32 × Int32 × Int32 × Int32 × (Option Nat) × (Option Nat) × (Option Nat) × (Nat → Int32) × (Nat → Int32) × (Nat → Int32) × (Nat → Int32) × (Nat → Int32) × (Nat → Int32) × (Nat → Int32) × (Nat → Int32) × (Nat → Int32) × (Nat → Int32) × (Nat → Int32) × (Nat → Int32) × (Nat → Int32) × (Nat → Int32)) => (x.1, nI j, x.2)) (fun k (z : Int32 × Int32 × Int32 × (Nat → Int32) × (Nat → Int32) × (Nat → Int32) × (Nat → Int32) × (Nat → Int32) × (Nat → Int32) × (Nat → Int32)) => (z.1, nI k, z.2)) (fun j x z => (∃ c : Nat, c ≤ 8 ∧ x.1 = nI c ∧ z.1 = nI c) ∧ (fun (x : Int32 × Int32 × Int32 × Int32 × (Option Nat) × (Option Nat) × (Option Nat) × (Nat → Int32) × (Nat → Int32) × (Nat → Int32) × (Nat → Int32) × (Nat → Int32) × (Nat → Int32) × (Nat → Int32) × (Nat → Int32) × (Nat → Int32) × (Nat → Int32) × (Nat → Int32) × (Nat → Int32) × (Nat → Int32) × (Nat → Int32)) (z : Int32 × Int32 × (Nat → Int32) × (Nat → Int32) × (Nat → Int32) × (Nat → Int32) × (Nat → Int32) × (Nat → Int32) × (Nat → Int32)) => z.1 = nI l ∧ AmR D x.1 z.2.1 x.2.2.2.2.2.2.2.2.2.2.2.2.2.2.2.2.2.2.2.2 z.2.2.2.2.2.2.2.2 ∧ (Lay (C * R) 1 z.2.2.2.2.2.2.1 f14 b14 v14 ∧ ∀ q, q < 192 * 1 → z.2.2.2.2.2.2.1 q = st q) ∧ Gr C R Z F B V f97 w97 b97 z.2.2.1 z.2.2.2.2.1 z.2.2.2.1 ∧ (∀ j, j < 1 → x.2.2.2.2.2.2.2.2.2.2.2.2.2.2.2.2.2.2.2.1 j = aims j ∧ z.2.2.2.2.2.2.2.1 j = row j)) x.2 z.2) hC hR (x := ((0 : Int32), lb1, l85, l102, l107, y85, y102, y107, f85, w85, h85, b85, f102, w102, h102, b102, f107, w107, h107, b107, aims, best)) (x2 := ((0 : Int32), nI l, lb14, f14, b14, v14, h14, k0, row, best14)) ⟨⟨0, by decide, rfl, rfl⟩, rfl, hA, ⟨hlay, hk0⟩, hg, fun j hj => ⟨rfl, rfl⟩⟩ ?_ ?_ ?_
      · rintro r c ⟨x1, x⟩ ⟨z1, z⟩ hr hc ⟨⟨n, hn, e1, e2⟩, e3, hA', ⟨hL, hq⟩, hg', hro⟩
        dsimp only at e1 e2 e3 hA' hL hq hg' hro ⊢
        subst e1 e2
        have hlt := cell_lt hC hR hr hc
        unfold f1_tries_1_s2 f14_tryAims_s3
        rw [show (64 : Int32) = nI 64 from rfl, show (8 : Int32) = nI 8 from rfl, if_neg (nI_ge (show 8 * r + c < 64 by omega) (by decide)), cells_is w9 w10, bind_is, if_neg (nI_ge hlt.1 (by omega))]
        by_cases h8 : 8 ≤ n
        · rw [if_pos (nI_le h8 (by omega)), if_pos (nI_le h8 (by omega))]
          exact ok_i (ok_i (Or.inr ⟨_, _, rfl, rfl, e3, hA', ⟨hL, hq⟩, hg', hro⟩))
        · rw [if_neg (nI_ge (by omega) (by omega)), if_neg (nI_ge (by omega) (by omega))]
          obtain ⟨⟨-, hB, -⟩, -, ⟨g3, -⟩, -⟩ := hg.1 r c hr hc
          obtain ⟨-, -, ⟨-, g4⟩, -⟩ := hg.1 r c hr hc
          have k1 : (nI (8 * r + c)).toNatClampNeg = 8 * r + c := nI_clamp (by omega)
          have k2 : (nI (192 * 1 + 3 * (C * r + c) + 1)).toNatClampNeg = 192 * 1 + 3 * (C * r + c) + 1 := nI_clamp (by omega)
          have k3 : z.2.2.2.2.2.2.1 (192 * 1 + 3 * (C * r + c) + 1) = nI (B r c) := (hL _ hlt.1).2.1.trans g4
          simp only [lt_is, z_192, z_3, pk_mul, nI_add, nI_1, gd_t (inb_nI (show 8 * r + c < 64 by omega) (by decide)), gd_t (inb_nI (show 192 * 1 + 3 * (C * r + c) + 1 < 576 by omega) (by decide)), k1, k2, k3, g3]
          rcases hB with hB | ⟨hB, -⟩
          · rw [if_pos (show nI (B r c) = 0 by rw [hB]; rfl), if_pos (show nI (B r c) = 0 by rw [hB]; rfl)]
            unfold f1_tries_1_j151 f14_tryAims_j192
            rw [lt_is, lt_is, nI_1, nI_1]
            exact ok_i (ok_i (Or.inl ⟨(_, x), (_, z), rfl, rfl, ⟨n, by omega, rfl, rfl⟩, e3, hA', ⟨hL, hq⟩, hg', hro⟩))
          · rw [if_neg (show ¬ nI (B r c) = 0 by rw [hB]; decide), if_neg (show ¬ nI (B r c) = 0 by rw [hB]; decide)]
            have hC0 : 0 < C := by omega
            have e5 : nI (8 * r + c) / nI 8 = nI r := by
              rw [pk_div (by omega) (by decide) (by decide), show (8 * r + c) / 8 = r by omega]
            have e6 : nI (8 * r + c) - nI (8 * r + c) / nI 8 * nI 8 = nI c := by
              rw [pk_rem (by omega) (by decide) (by decide), show (8 * r + c) % 8 = c by omega]
            rw [e5] at e6
            have e7 : nI (C * r + c) / nI C = nI r := by
              rw [pk_div (by omega) hC0 (by omega), Nat.mul_add_div hC0, Nat.div_eq_of_lt hc, Nat.add_zero]
            have e8 : nI (C * r + c) - nI (C * r + c) / nI C * nI C = nI c := by
              rw [pk_rem (by omega) hC0 (by omega), Nat.mul_add_mod, Nat.mod_eq_of_lt hc]
            rw [e7] at e8
            obtain ⟨a, ea, mm, em, zz, ez, u, eu, n1, ⟨n2, n3⟩, n4, n5, n6⟩ := aim_next_1 (tt := t) (p4 := nI (8 * r + c)) (p14 := nI (C * r + c)) (v := 100 + 10 * nI r + nI c) (h14 := z.2.2.2.2.2.1) (st := z.2.2.2.2.2.2.1) (row := z.2.2.2.2.2.2.2.1) hD (by omega) w9 w10 w11 hC hR ht ht rfl hZ hl (Or.inr ⟨r, c, hr, hc, rfl, rfl⟩) x.2.1 l97 x.2.2.1 x.2.2.2.1 y x.2.2.2.2.1 x.2.2.2.2.2.1 x.2.2.2.2.2.2.1 x.2.2.2.2.2.2.2.1 x.2.2.2.2.2.2.2.2.1 x.2.2.2.2.2.2.2.2.2.1 x.2.2.2.2.2.2.2.2.2.2.1 f97 w97 b97 x.2.2.2.2.2.2.2.2.2.2.2.1 x.2.2.2.2.2.2.2.2.2.2.2.2.1 x.2.2.2.2.2.2.2.2.2.2.2.2.2.1 x.2.2.2.2.2.2.2.2.2.2.2.2.2.2.1 x.2.2.2.2.2.2.2.2.2.2.2.2.2.2.2.1 x.2.2.2.2.2.2.2.2.2.2.2.2.2.2.2.2.1 x.2.2.2.2.2.2.2.2.2.2.2.2.2.2.2.2.2.1 x.2.2.2.2.2.2.2.2.2.2.2.2.2.2.2.2.2.2.1 x.2.2.2.2.2.2.2.2.2.2.2.2.2.2.2.2.2.2.2.1 x.2.2.2.2.2.2.2.2.2.2.2.2.2.2.2.2.2.2.2.2 hg' hg hL hbl (fun j hj => (hro j hj).1.trans ((hrow j hj).trans (hro j hj).2.symm)) hA'
            have kd : (nI 1).toNatClampNeg = 1 := nI_clamp (by decide)
            simp only [columns_is, w9, bind_is, gd_t (show ¬ nI 8 = 0 by decide), gd_t (nI_ne0 hC0 (show C < 2 ^ 31 by omega)), gd_t (show inb (nI 1) 3 by decide), e6, e5, e8, e7, kd, e3]
            rw [ea, bind_is, em, bind_is]
            rw [ez, bind_is, eu, bind_is]
            unfold f1_tries_1_j151 f14_tryAims_j192
            rw [lt_is, lt_is, nI_1, nI_1]
            exact ok_i (ok_i (Or.inl ⟨(_, a), (_, nI l, _, _, _, _, _, _, _, _), rfl, rfl, ⟨n + 1, by omega, rfl, rfl⟩, rfl, n1, ⟨n2, fun q hq' => (n3 q hq').trans (hq q hq')⟩, n4, fun j hj => ⟨(n5 j hj).1.trans (hro j hj).1, (n5 j hj).2.trans (hro j hj).2⟩⟩))
      · rintro j ⟨x1, x⟩ ⟨z1, z⟩ hj hn ⟨⟨n, hn8, e1, e2⟩, e3, hA', ⟨hL, hq⟩, hg', hro⟩
        dsimp only at e1 e2 e3 hA' hL hq hg' hro ⊢
        subst e1 e2
        unfold f1_tries_1_s2
        rw [show (64 : Int32) = nI 64 from rfl, show (8 : Int32) = nI 8 from rfl, if_neg (nI_ge hj (by decide))]
        by_cases h8 : 8 ≤ n
        · rw [if_pos (nI_le h8 (by omega))]
          refine ok_i (Or.inr ⟨_, rfl, fun k hk => ?_⟩)
          unfold f14_tryAims_s3
          rw [cells_is w9 w10, bind_is]
          by_cases hkC : C * R ≤ k
          · rw [if_pos (nI_le hkC (by omega))]
            exact ok_i ⟨_, rfl, e3, hA', ⟨hL, hq⟩, hg', hro⟩
          · rw [if_neg (nI_ge (by omega) (by omega)), show (8 : Int32) = nI 8 from rfl, if_pos (nI_le h8 (by omega))]
            exact ok_i ⟨_, rfl, e3, hA', ⟨hL, hq⟩, hg', hro⟩
        · rw [if_neg (nI_ge (by omega) (by omega))]
          have k1 : (nI j).toNatClampNeg = j := nI_clamp (by omega)
          simp only [lt_is, gd_t (inb_nI (show j < 64 by omega) (by decide)), k1, hg.2 j hj hn]
          rw [if_pos trivial]
          unfold f1_tries_1_j151
          rw [lt_is, nI_1]
          exact ok_i (Or.inl ⟨(_, x), rfl, ⟨n, hn8, rfl, rfl⟩, e3, hA', ⟨hL, hq⟩, hg', hro⟩)
      · rintro x z ⟨-, h⟩
        dsimp only
        unfold f1_tries_1_s2 f14_tryAims_s3
        rw [show (64 : Int32) = nI 64 from rfl, if_pos (nI_le (Nat.le_refl _) (by decide)), cells_is w9 w10, bind_is, if_pos (nI_le (Nat.le_refl _) (by omega))]
        exact ok_i (ok_i ⟨_, _, rfl, rfl, h⟩)
    · rintro x z ⟨e3, hA', ⟨hL, hq⟩, hg', hro⟩
      unfold f1_tries_1_e2_0 f14_tryAims_e3_0
      obtain ⟨a, ea, mm, em, zz, ez, u, eu, n1, ⟨n2, n3⟩, n4, n5, n6⟩ := aim_next_1 (tt := 0) (p4 := -1) (p14 := -1) (v := 0) (h14 := z.2.2.2.2.2.1) (st := z.2.2.2.2.2.2.1) (row := z.2.2.2.2.2.2.2.1) hD (by omega) w9 w10 w11 hC hR ht (by decide) (min_no t) hZ hl (Or.inl ⟨rfl, rfl⟩) x.2.1 l97 x.2.2.1 x.2.2.2.1 y x.2.2.2.2.1 x.2.2.2.2.2.1 x.2.2.2.2.2.2.1 x.2.2.2.2.2.2.2.1 x.2.2.2.2.2.2.2.2.1 x.2.2.2.2.2.2.2.2.2.1 x.2.2.2.2.2.2.2.2.2.2.1 f97 w97 b97 x.2.2.2.2.2.2.2.2.2.2.2.1 x.2.2.2.2.2.2.2.2.2.2.2.2.1 x.2.2.2.2.2.2.2.2.2.2.2.2.2.1 x.2.2.2.2.2.2.2.2.2.2.2.2.2.2.1 x.2.2.2.2.2.2.2.2.2.2.2.2.2.2.2.1 x.2.2.2.2.2.2.2.2.2.2.2.2.2.2.2.2.1 x.2.2.2.2.2.2.2.2.2.2.2.2.2.2.2.2.2.1 x.2.2.2.2.2.2.2.2.2.2.2.2.2.2.2.2.2.2.1 x.2.2.2.2.2.2.2.2.2.2.2.2.2.2.2.2.2.2.2.1 x.2.2.2.2.2.2.2.2.2.2.2.2.2.2.2.2.2.2.2.2 hg' hg hL hbl (fun j hj => (hro j hj).1.trans ((hrow j hj).trans (hro j hj).2.symm)) hA'
      have kd : (nI 1).toNatClampNeg = 1 := nI_clamp (by decide)
      have em' : f14_minute (-1) 0 (nI l) w z.2.2.1 z.2.2.2.1 z.2.2.2.2.1 z.2.2.2.2.2.1 = some mm := em
      rw [e3, ea, bind_is]
      simp only [gd_t (show inb (nI 1) 3 by decide), lt_is, nI_1, kd, em', bind_is]
      rw [ez, bind_is, eu, bind_is]
      exact ok_i (ok_i ⟨n1, fun q hq' => (n3 q hq').trans (hq q hq'), fun j hj => ⟨(n5 j hj).1.trans (hro j hj).1, (n5 j hj).2.trans (hro j hj).2⟩, n6⟩)
theorem aim_leaf_0 {C R Z l : Nat} {wnd : Int32} {F B V : Nat → Nat → Nat} {f1 v1 b1 h1 w f14 v14 b14 h14 : Nat → Int32} (hg : Gr C R Z F B V f1 v1 b1 f14 v14 b14) (w9 : w 9 = nI C) (w10 : w 10 = nI R) (w11 : w 11 = wnd) (hC : C ≤ 8) (hR : R ≤ 8) (hZ : Z ≤ 9999) (hl : l ≤ 64 * 0) : Ok (whl (fun (s20 : Int32 × Int32 × (Nat → Int32) × (Nat → Int32) × (Nat → Int32) × (Nat → Int32)) => f1_tries_0_s20 (nI C) (nI R) wnd s20.1 s20.2.1 s20.2.2.1 s20.2.2.2.1 s20.2.2.2.2.1 s20.2.2.2.2.2) FU ((0 : Int32), nI l, f1, v1, h1, b1)) (fun x => Ok (whl (fun (s37 : Int32 × Int32 × (Nat → Int32) × (Nat → Int32) × (Nat → Int32) × (Nat → Int32)) => f14_tryAims_s37 w s37.1 s37.2.1 s37.2.2.1 s37.2.2.2.1 s37.2.2.2.2.1 s37.2.2.2.2.2) FU ((0 : Int32), nI l, f14, b14, v14, h14)) (fun y => ∃ v : Nat, v ≤ 2000 ∧ x.1 = nI v ∧ y.1 = nI v)) := by
  refine for2_ok (fun i (x : Int32 × (Nat → Int32) × (Nat → Int32) × (Nat → Int32) × (Nat → Int32)) => (nI (0 + i), x)) (fun i (x : Int32 × (Nat → Int32) × (Nat → Int32) × (Nat → Int32) × (Nat → Int32)) => (nI (0 + i), x)) (fun i x y => (∃ v, v ≤ 64 * (0 + i) ∧ x.1 = nI v ∧ y.1 = nI v) ∧ ∃ F B V, Gr C R Z F B V x.2.1 x.2.2.1 x.2.2.2.2 y.2.1 y.2.2.2.1 y.2.2.1) (20 - 0) (by decide) ⟨⟨l, hl, rfl, rfl⟩, F, B, V, hg⟩ ?_ ?_
  · rintro i ⟨x1, x2, x3, x4, x5⟩ ⟨y1, y2, y3, y4, y5⟩ hi ⟨⟨v, hv, e1, e2⟩, F, B, V, hg⟩
    dsimp only at e1 e2 hg ⊢
    subst e1 e2
    unfold f1_tries_0_s20 f14_tryAims_s37
    rw [show (20 : Int32) = nI 20 from rfl, if_neg (nI_ge (show 0 + i < 20 by omega) (by decide)), if_neg (nI_ge (show 0 + i < 20 by omega) (by decide))]
    refine ok_b2 (minute_eq (t := 0) (p1 := -1) (p14 := -1) hg w9 w10 w11 hC hR (by omega) (by omega) (Or.inl ⟨rfl, rfl⟩) x4 y5) ?_
    rintro x' y' ⟨⟨l', hl', e1, e2⟩, F', B', V', hg'⟩
    rw [lt_is, lt_is, nI_1]
    exact ok_i (ok_i ⟨_, _, rfl, rfl, ⟨l', by omega, e1, e2⟩, F', B', V', hg'⟩)
  · rintro x y ⟨⟨v, hv, e1, e2⟩, -⟩
    dsimp only
    unfold f1_tries_0_s20 f14_tryAims_s37
    rw [show (20 : Int32) = nI 20 from rfl, if_pos (by decide), if_pos (by decide)]
    exact ok_i (ok_i ⟨_, _, rfl, rfl, v, by omega, e1, e2⟩)
theorem aim_next_0 {C R D t Z l : Nat} {wnd : Int32} {F B V : Nat → Nat → Nat} {w f14 v14 b14 h14 st row best14 : Nat → Int32} {lb1 lb14 : Int32} {f0 b0 v0 : Nat → Int32} {tt : Nat} {p4 p14 v : Int32} (hD : D ≤ 3) (hdD : 0 < D) (w9 : w 9 = nI C) (w10 : w 10 = nI R) (w11 : w 11 = wnd) (hC : C ≤ 8) (hR : R ≤ 8) (ht : t ≤ 999) (htt : tt ≤ 999) (hmt : f12_minute p4 (nI t) = f12_minute p4 (nI tt)) (hZ : Z ≤ 999 * 0) (hl : l ≤ 64 * 0) (hcel : Cel C R p4 p14) (l85 l92 l97 l102 l107 : Int32) (y : Nat) (y85 y97 y102 y107 : Option Nat) (f85 w85 h85 b85 f92 w92 b92 f97 w97 h97 b97 f102 w102 h102 b102 f107 w107 h107 b107 aims best : Nat → Int32) (hg : Gr C R Z F B V f92 w92 b92 f14 v14 b14) (hg0 : Gr C R Z F B V f92 w92 b92 f0 v0 b0) (hlay : Lay (C * R) 0 st f0 b0 v0) (hbl : l92 = nI l) (hrow : ∀ j, j < 0 → aims j = row j) (hA : AmR D lb1 lb14 best best14) :
    Ok (f1_next_0 (nI D) (nI t) p4 v y lb1 (nI C) (nI R) wnd l85 l92 l97 l102 l107 y85 y97 y102 y107 f85 w85 h85 b85 f92 w92 b92 f97 w97 h97 b97 f102 w102 h102 b102 f107 w107 h107 b107 aims best) (fun x => Ok (f14_minute p14 (nI tt) (nI l) w f14 b14 v14 h14) (fun m => Ok (fG_X14_tryAims 4 (nI 1) (nI t) m.1 lb14 (nI D) w m.2.1 m.2.2.1 m.2.2.2.1 m.2.2.2.2 st (upd row 0 v) best14) (fun z => Ok (f14_bringFire (nI 0) w z.2.2.1 z.2.2.2.1 z.2.2.2.2.1 z.2.2.2.2.2.2.1) (fun u => AmR D x.1 z.2.1 x.2.2.2.2.2.2.2.2.2.2.2.2.2.2.2.2.2.2.2.2.2.2.2.2.2.2 z.2.2.2.2.2.2.2.2 ∧ (Lay (C * R) 0 z.2.2.2.2.2.2.1 f0 b0 v0 ∧ ∀ q, q < 192 * 0 → z.2.2.2.2.2.2.1 q = st q) ∧ Gr C R Z F B V f92 w92 b92 u.1 u.2.2 u.2.1 ∧ (∀ j, j < 0 → x.2.2.2.2.2.2.2.2.2.2.2.2.2.2.2.2.2.2.2.2.2.2.2.2.2.1 j = aims j ∧ z.2.2.2.2.2.2.2.1 j = row j) ∧ ¬ z.2.1 = -1)))) := by
  unfold f1_next_0
  obtain ⟨x, ex, e1, hx⟩ := be_ok hg hC hR l92 l97 f97 w97 b97
  rw [ex, bind_is, hmt, e1, hbl]
  obtain ⟨mm, em, m, em14, ⟨l', hl', f1, f2⟩, F', B', V', hg'⟩ := minute_eq (t := tt) hx w9 w10 w11 hC hR (show Z + tt < 2 ^ 29 by omega) (show l < 2 ^ 29 by omega) hcel h97 h14
  rw [em, bind_is, gd_t (by decide), lt_is, show (0 : Int32).toNatClampNeg = 0 from rfl]
  have hrow' : ∀ j, j < 1 → upd aims 0 v j = upd row 0 v j := by
    intro j hj
    by_cases q : j = 0
    · subst q
      rw [pk_us, pk_us]
    · rw [pk_un q, pk_un q]
      exact hrow j (by omega)
  obtain ⟨r, er, z, ez, hA', hst, hro, hfo⟩ := aim_tries_1 (h14 := m.2.2.2.2) (st := st) (row := upd row 0 v) hD hdD w9 w10 w11 hC hR ht (show Z + tt ≤ 999 * 1 by omega) (show l' ≤ 64 * 1 by omega) l85 mm.1 l102 l107 y y85 y102 y107 f85 w85 h85 b85 mm.2.1 mm.2.2.1 mm.2.2.2.2 f102 w102 h102 b102 f107 w107 h107 b107 (upd aims 0 v) best hg' f1 hrow' hA
  · rw [er, bind_is]
    refine ok_i (ok_eq em14 ?_)
    rw [f2]
    refine ok_eq ez ?_
    have hlay' : Lay (C * R) 0 z.2.2.2.2.2.2.1 f0 b0 v0 := by
      intro k hk
      have hCR : C * R ≤ 8 * 8 := Nat.mul_le_mul hC hR
      obtain ⟨a1, a2, a3⟩ := hlay k hk
      exact ⟨(hst _ (by omega)).trans a1, (hst _ (by omega)).trans a2, (hst _ (by omega)).trans a3⟩
    obtain ⟨u, eu, hu⟩ := bring_ok (f := z.2.2.1) (b := z.2.2.2.1) (v := z.2.2.2.2.1) w9 w10 hC hR (show 0 ≤ 2 by decide) hlay'
    refine ok_eq eu ⟨hA', ⟨hlay', fun q hq => hst q (by omega)⟩, hg0.swap hC hR (fun k hk => ⟨(hu k hk).1, (hu k hk).2.1, (hu k hk).2.2⟩), fun j hj => ?_, hfo⟩
    have := hro j (by omega)
    rw [pk_un (by omega), pk_un (by omega)] at this
    exact this
theorem aim_tries_0 {C R D t Z l : Nat} {wnd : Int32} {F B V : Nat → Nat → Nat} {w f14 v14 b14 h14 st row best14 : Nat → Int32} {lb1 lb14 : Int32} (hD : D ≤ 3) (hdD : 0 ≤ D) (w9 : w 9 = nI C) (w10 : w 10 = nI R) (w11 : w 11 = wnd) (hC : C ≤ 8) (hR : R ≤ 8) (ht : t ≤ 999) (hZ : Z ≤ 999 * 0) (hl : l ≤ 64 * 0) (l85 l92 l97 l102 l107 : Int32) (y : Nat) (y85 y97 y102 y107 : Option Nat) (f85 w85 h85 b85 f92 w92 b92 f97 w97 h97 b97 f102 w102 h102 b102 f107 w107 h107 b107 aims best : Nat → Int32) (hg : Gr C R Z F B V f92 w92 b92 f14 v14 b14) (hbl : l92 = nI l) (hrow : ∀ j, j < 0 → aims j = row j) (hA : AmR D lb1 lb14 best best14) :
    Ok (f1_tries_0 (nI D) (nI t) y lb1 (nI C) (nI R) wnd l85 l92 l97 l102 l107 y85 y97 y102 y107 f85 w85 h85 b85 f92 w92 b92 f97 w97 h97 b97 f102 w102 h102 b102 f107 w107 h107 b107 aims best) (fun x => Ok (fG_X14_tryAims 5 (nI 0) (nI t) (nI l) lb14 (nI D) w f14 b14 v14 h14 st row best14) (fun z => AmR D x.1 z.2.1 x.2.2.2.2.2.2.2.2.2.2.2.2.2.2.2.2.2.2.2.2.2.2.2.2.2.2 z.2.2.2.2.2.2.2.2 ∧ (∀ q, q < 192 * 0 → z.2.2.2.2.2.2.1 q = st q) ∧ (∀ j, j < 0 → x.2.2.2.2.2.2.2.2.2.2.2.2.2.2.2.2.2.2.2.2.2.2.2.2.2.1 j = aims j ∧ z.2.2.2.2.2.2.2.1 j = row j) ∧ ¬ z.2.1 = -1)) := by
  show Ok (f1_tries_0 (nI D) (nI t) y lb1 (nI C) (nI R) wnd l85 l92 l97 l102 l107 y85 y97 y102 y107 f85 w85 h85 b85 f92 w92 b92 f97 w97 h97 b97 f102 w102 h102 b102 f107 w107 h107 b107 aims best) (fun x => Ok (fb14_tryAims (fG_X14_tryAims 4) (nI 0) (nI t) (nI l) lb14 (nI D) w f14 b14 v14 h14 st row best14) _)
  unfold f1_tries_0 fb14_tryAims
  by_cases hp : 0 = D
  · subst hp
    rw [if_pos (show (0 : Int32) = nI 0 from rfl), if_pos rfl]
    obtain ⟨x, ex, e1, hx⟩ := be_ok hg hC hR l92 l85 f85 w85 b85
    rw [ex, bind_is, e1, hbl]
    refine ok_b2 (aim_leaf_0 (h1 := h85) (h14 := h14) hx w9 w10 w11 hC hR (by omega) hl) ?_
    rintro q z ⟨v, hv, g1, g2⟩
    unfold f1_tries_0_e20_0 f14_tryAims_e37_0
    obtain ⟨z9, ez, c1, c2, c3, c4⟩ := aim_leaf14 (D := 0) (by decide) (st := st) (row := row) (best := best14) (x := z)
    rw [g2] at c1
    have hcp : cp_ok (0 : Int32) (0 : Int32) (0 : Int32) 3 3 := cp_n (n := 0) (by decide) (by decide) (by decide)
    have hnew : ∀ (e : AmR 0 q.1 z9.2.1 (va_cpy aims best (0 : Int32).toNatClampNeg (0 : Int32).toNatClampNeg (0 : Int32).toNatClampNeg) z9.2.2.2.2.2.2.2.2), True := fun _ => trivial
    have hA2 : AmR 0 q.1 z9.2.1 (va_cpy aims best (0 : Int32).toNatClampNeg (0 : Int32).toNatClampNeg (0 : Int32).toNatClampNeg) z9.2.2.2.2.2.2.2.2 := Or.inr ⟨v, hv, g1, c1, fun j hj => (cpy_at (n := 0) (by decide) hj).trans ((hrow j hj).trans (c4 j hj).symm)⟩
    rcases hA with ⟨a1, a2⟩ | ⟨b, hb, a1, a2, a3⟩
    · rw [if_pos (show q.1 < lb1 by rw [g1, a1]; exact nI_lt (by omega) (by omega)), if_pos a2, ez, gd_t hcp, lt_is]
      exact ok_i (ok_i ⟨hA2, fun q _ => by rw [c2], fun j hj => ⟨rfl, by rw [c3]⟩, by rw [c1]; exact nI_nm1 (by omega)⟩)
    · have hn1 : ¬ lb14 = -1 := by
        rw [a2]
        exact nI_nm1 (by omega)
      rw [if_neg hn1]
      by_cases hvb : v < b
      · rw [if_pos (show q.1 < lb1 by rw [g1, a1]; exact nI_lt hvb (by omega)), if_pos (show z.1 < lb14 by rw [g2, a2]; exact nI_lt hvb (by omega)), ez, gd_t hcp, lt_is]
        exact ok_i (ok_i ⟨hA2, fun q _ => by rw [c2], fun j hj => ⟨rfl, by rw [c3]⟩, by rw [c1]; exact nI_nm1 (by omega)⟩)
      · rw [if_neg (show ¬ q.1 < lb1 by rw [g1, a1]; exact nI_nlt (by omega) (by omega)), if_neg (show ¬ z.1 < lb14 by rw [g2, a2]; exact nI_nlt (by omega) (by omega))]
        exact ok_i (ok_i ⟨Or.inr ⟨b, hb, a1, a2, a3⟩, fun q _ => rfl, fun j hj => ⟨rfl, rfl⟩, hn1⟩)
  · rw [if_neg (show ¬ (0 : Int32) = nI D from fun h => hp ((nI_eq (a := 0) (by decide) (by omega)).mp h)), if_neg (fun h => hp ((nI_eq (by decide) (by omega)).mp h))]
    obtain ⟨k0, ek, hlay, hk0⟩ := keep_ok (f := f14) (b := b14) (v := v14) (st := st) w9 w10 hC hR (show 0 ≤ 2 by decide)
    have hCR : C * R ≤ 8 * 8 := Nat.mul_le_mul hC hR
    rw [ek, bind_is]
    refine ok_b2 (S := fun (x : Int32 × Int32 × Int32 × Int32 × Int32 × (Option Nat) × (Option Nat) × (Option Nat) × (Option Nat) × (Nat → Int32) × (Nat → Int32) × (Nat → Int32) × (Nat → Int32) × (Nat → Int32) × (Nat → Int32) × (Nat → Int32) × (Nat → Int32) × (Nat → Int32) × (Nat → Int32) × (Nat → Int32) × (Nat → Int32) × (Nat → Int32) × (Nat → Int32) × (Nat → Int32) × (Nat → Int32) × (Nat → Int32) × (Nat → Int32)) (z : Int32 × Int32 × (Nat → Int32) × (Nat → Int32) × (Nat → Int32) × (Nat → Int32) × (Nat → Int32) × (Nat → Int32) × (Nat → Int32)) => z.1 = nI l ∧ AmR D x.1 z.2.1 x.2.2.2.2.2.2.2.2.2.2.2.2.2.2.2.2.2.2.2.2.2.2.2.2.2.2 z.2.2.2.2.2.2.2.2 ∧ (Lay (C * R) 0 z.2.2.2.2.2.2.1 f14 b14 v14 ∧ ∀ q, q < 192 * 0 → z.2.2.2.2.2.2.1 q = st q) ∧ Gr C R Z F B V f92 w92 b92 z.2.2.1 z.2.2.2.2.1 z.2.2.2.1 ∧ (∀ j, j < 0 → x.2.2.2.2.2.2.2.2.2.2.2.2.2.2.2.2.2.2.2.2.2.2.2.2.2.1 j = aims j ∧ z.2.2.2.2.2.2.2.1 j = row j)) ?_ ?_
    · refine ok_gridx (fun j (x : Int32 × Int32 × Int32 × Int32 × Int32 × Int32 × (Option Nat) × (Option Nat) × (Option Nat) × (Option Nat) × (Nat → Int32) × (Nat → Int32) × (Nat → Int32) × (Nat → Int32) × (Nat → Int32) × (Nat → Int32) × (Nat → Int32) × (Nat → Int32) × (Nat → Int32) × (Nat → Int32) × (Nat → Int32) × (Nat → Int32) × (Nat → Int32) × (Nat → Int32) × (Nat → Int32) × (Nat → Int32) × (Nat → Int32) × (Nat → Int32)) => (x.1, nI j, x.2)) (fun k (z : Int32 × Int32 × Int32 × (Nat → Int32) × (Nat → Int32) × (Nat → Int32) × (Nat → Int32) × (Nat → Int32) × (Nat → Int32) × (Nat → Int32)) => (z.1, nI k, z.2)) (fun j x z => (∃ c : Nat, c ≤ 8 ∧ x.1 = nI c ∧ z.1 = nI c) ∧ (fun (x : Int32 × Int32 × Int32 × Int32 × Int32 × (Option Nat) × (Option Nat) × (Option Nat) × (Option Nat) × (Nat → Int32) × (Nat → Int32) × (Nat → Int32) × (Nat → Int32) × (Nat → Int32) × (Nat → Int32) × (Nat → Int32) × (Nat → Int32) × (Nat → Int32) × (Nat → Int32) × (Nat → Int32) × (Nat → Int32) × (Nat → Int32) × (Nat → Int32) × (Nat → Int32) × (Nat → Int32) × (Nat → Int32) × (Nat → Int32)) (z : Int32 × Int32 × (Nat → Int32) × (Nat → Int32) × (Nat → Int32) × (Nat → Int32) × (Nat → Int32) × (Nat → Int32) × (Nat → Int32)) => z.1 = nI l ∧ AmR D x.1 z.2.1 x.2.2.2.2.2.2.2.2.2.2.2.2.2.2.2.2.2.2.2.2.2.2.2.2.2.2 z.2.2.2.2.2.2.2.2 ∧ (Lay (C * R) 0 z.2.2.2.2.2.2.1 f14 b14 v14 ∧ ∀ q, q < 192 * 0 → z.2.2.2.2.2.2.1 q = st q) ∧ Gr C R Z F B V f92 w92 b92 z.2.2.1 z.2.2.2.2.1 z.2.2.2.1 ∧ (∀ j, j < 0 → x.2.2.2.2.2.2.2.2.2.2.2.2.2.2.2.2.2.2.2.2.2.2.2.2.2.1 j = aims j ∧ z.2.2.2.2.2.2.2.1 j = row j)) x.2 z.2) hC hR (x := ((0 : Int32), lb1, l85, l97, l102, l107, y85, y97, y102, y107, f85, w85, h85, b85, f97, w97, h97, b97, f102, w102, h102, b102, f107, w107, h107, b107, aims, best)) (x2 := ((0 : Int32), nI l, lb14, f14, b14, v14, h14, k0, row, best14)) ⟨⟨0, by decide, rfl, rfl⟩, rfl, hA, ⟨hlay, hk0⟩, hg, fun j hj => ⟨rfl, rfl⟩⟩ ?_ ?_ ?_
      · rintro r c ⟨x1, x⟩ ⟨z1, z⟩ hr hc ⟨⟨n, hn, e1, e2⟩, e3, hA', ⟨hL, hq⟩, hg', hro⟩
        dsimp only at e1 e2 e3 hA' hL hq hg' hro ⊢
        subst e1 e2
        have hlt := cell_lt hC hR hr hc
        unfold f1_tries_0_s2 f14_tryAims_s3
        rw [show (64 : Int32) = nI 64 from rfl, show (8 : Int32) = nI 8 from rfl, if_neg (nI_ge (show 8 * r + c < 64 by omega) (by decide)), cells_is w9 w10, bind_is, if_neg (nI_ge hlt.1 (by omega))]
        by_cases h8 : 8 ≤ n
        · rw [if_pos (nI_le h8 (by omega)), if_pos (nI_le h8 (by omega))]
          exact ok_i (ok_i (Or.inr ⟨_, _, rfl, rfl, e3, hA', ⟨hL, hq⟩, hg', hro⟩))
        · rw [if_neg (nI_ge (by omega) (by omega)), if_neg (nI_ge (by omega) (by omega))]
          obtain ⟨⟨-, hB, -⟩, -, ⟨g3, -⟩, -⟩ := hg.1 r c hr hc
          obtain ⟨-, -, ⟨-, g4⟩, -⟩ := hg.1 r c hr hc
          have k1 : (nI (8 * r + c)).toNatClampNeg = 8 * r + c := nI_clamp (by omega)
          have k2 : (nI (192 * 0 + 3 * (C * r + c) + 1)).toNatClampNeg = 192 * 0 + 3 * (C * r + c) + 1 := nI_clamp (by omega)
          have k3 : z.2.2.2.2.2.2.1 (192 * 0 + 3 * (C * r + c) + 1) = nI (B r c) := (hL _ hlt.1).2.1.trans g4
          simp only [lt_is, z_192, z_3, pk_mul, nI_add, nI_1, gd_t (inb_nI (show 8 * r + c < 64 by omega) (by decide)), gd_t (inb_nI (show 192 * 0 + 3 * (C * r + c) + 1 < 576 by omega) (by decide)), k1, k2, k3, g3]
          rcases hB with hB | ⟨hB, -⟩
          · rw [if_pos (show nI (B r c) = 0 by rw [hB]; rfl), if_pos (show nI (B r c) = 0 by rw [hB]; rfl)]
            unfold f1_tries_0_j151 f14_tryAims_j192
            rw [lt_is, lt_is, nI_1, nI_1]
            exact ok_i (ok_i (Or.inl ⟨(_, x), (_, z), rfl, rfl, ⟨n, by omega, rfl, rfl⟩, e3, hA', ⟨hL, hq⟩, hg', hro⟩))
          · rw [if_neg (show ¬ nI (B r c) = 0 by rw [hB]; decide), if_neg (show ¬ nI (B r c) = 0 by rw [hB]; decide)]
            have hC0 : 0 < C := by omega
            have e5 : nI (8 * r + c) / nI 8 = nI r := by
              rw [pk_div (by omega) (by decide) (by decide), show (8 * r + c) / 8 = r by omega]
            have e6 : nI (8 * r + c) - nI (8 * r + c) / nI 8 * nI 8 = nI c := by
              rw [pk_rem (by omega) (by decide) (by decide), show (8 * r + c) % 8 = c by omega]
            rw [e5] at e6
            have e7 : nI (C * r + c) / nI C = nI r := by
              rw [pk_div (by omega) hC0 (by omega), Nat.mul_add_div hC0, Nat.div_eq_of_lt hc, Nat.add_zero]
            have e8 : nI (C * r + c) - nI (C * r + c) / nI C * nI C = nI c := by
              rw [pk_rem (by omega) hC0 (by omega), Nat.mul_add_mod, Nat.mod_eq_of_lt hc]
            rw [e7] at e8
            obtain ⟨a, ea, mm, em, zz, ez, u, eu, n1, ⟨n2, n3⟩, n4, n5, n6⟩ := aim_next_0 (tt := t) (p4 := nI (8 * r + c)) (p14 := nI (C * r + c)) (v := 100 + 10 * nI r + nI c) (h14 := z.2.2.2.2.2.1) (st := z.2.2.2.2.2.2.1) (row := z.2.2.2.2.2.2.2.1) hD (by omega) w9 w10 w11 hC hR ht ht rfl hZ hl (Or.inr ⟨r, c, hr, hc, rfl, rfl⟩) x.2.1 l92 x.2.2.1 x.2.2.2.1 x.2.2.2.2.1 y x.2.2.2.2.2.1 x.2.2.2.2.2.2.1 x.2.2.2.2.2.2.2.1 x.2.2.2.2.2.2.2.2.1 x.2.2.2.2.2.2.2.2.2.1 x.2.2.2.2.2.2.2.2.2.2.1 x.2.2.2.2.2.2.2.2.2.2.2.1 x.2.2.2.2.2.2.2.2.2.2.2.2.1 f92 w92 b92 x.2.2.2.2.2.2.2.2.2.2.2.2.2.1 x.2.2.2.2.2.2.2.2.2.2.2.2.2.2.1 x.2.2.2.2.2.2.2.2.2.2.2.2.2.2.2.1 x.2.2.2.2.2.2.2.2.2.2.2.2.2.2.2.2.1 x.2.2.2.2.2.2.2.2.2.2.2.2.2.2.2.2.2.1 x.2.2.2.2.2.2.2.2.2.2.2.2.2.2.2.2.2.2.1 x.2.2.2.2.2.2.2.2.2.2.2.2.2.2.2.2.2.2.2.1 x.2.2.2.2.2.2.2.2.2.2.2.2.2.2.2.2.2.2.2.2.1 x.2.2.2.2.2.2.2.2.2.2.2.2.2.2.2.2.2.2.2.2.2.1 x.2.2.2.2.2.2.2.2.2.2.2.2.2.2.2.2.2.2.2.2.2.2.1 x.2.2.2.2.2.2.2.2.2.2.2.2.2.2.2.2.2.2.2.2.2.2.2.1 x.2.2.2.2.2.2.2.2.2.2.2.2.2.2.2.2.2.2.2.2.2.2.2.2.1 x.2.2.2.2.2.2.2.2.2.2.2.2.2.2.2.2.2.2.2.2.2.2.2.2.2.1 x.2.2.2.2.2.2.2.2.2.2.2.2.2.2.2.2.2.2.2.2.2.2.2.2.2.2 hg' hg hL hbl (fun j hj => (hro j hj).1.trans ((hrow j hj).trans (hro j hj).2.symm)) hA'
            have kd : (nI 0).toNatClampNeg = 0 := nI_clamp (by decide)
            simp only [columns_is, w9, bind_is, gd_t (show ¬ nI 8 = 0 by decide), gd_t (nI_ne0 hC0 (show C < 2 ^ 31 by omega)), gd_t (show inb (nI 0) 3 by decide), e6, e5, e8, e7, kd, e3]
            rw [ea, bind_is, em, bind_is]
            rw [ez, bind_is, eu, bind_is]
            unfold f1_tries_0_j151 f14_tryAims_j192
            rw [lt_is, lt_is, nI_1, nI_1]
            exact ok_i (ok_i (Or.inl ⟨(_, a), (_, nI l, _, _, _, _, _, _, _, _), rfl, rfl, ⟨n + 1, by omega, rfl, rfl⟩, rfl, n1, ⟨n2, fun q hq' => (n3 q hq').trans (hq q hq')⟩, n4, fun j hj => ⟨(n5 j hj).1.trans (hro j hj).1, (n5 j hj).2.trans (hro j hj).2⟩⟩))
      · rintro j ⟨x1, x⟩ ⟨z1, z⟩ hj hn ⟨⟨n, hn8, e1, e2⟩, e3, hA', ⟨hL, hq⟩, hg', hro⟩
        dsimp only at e1 e2 e3 hA' hL hq hg' hro ⊢
        subst e1 e2
        unfold f1_tries_0_s2
        rw [show (64 : Int32) = nI 64 from rfl, show (8 : Int32) = nI 8 from rfl, if_neg (nI_ge hj (by decide))]
        by_cases h8 : 8 ≤ n
        · rw [if_pos (nI_le h8 (by omega))]
          refine ok_i (Or.inr ⟨_, rfl, fun k hk => ?_⟩)
          unfold f14_tryAims_s3
          rw [cells_is w9 w10, bind_is]
          by_cases hkC : C * R ≤ k
          · rw [if_pos (nI_le hkC (by omega))]
            exact ok_i ⟨_, rfl, e3, hA', ⟨hL, hq⟩, hg', hro⟩
          · rw [if_neg (nI_ge (by omega) (by omega)), show (8 : Int32) = nI 8 from rfl, if_pos (nI_le h8 (by omega))]
            exact ok_i ⟨_, rfl, e3, hA', ⟨hL, hq⟩, hg', hro⟩
        · rw [if_neg (nI_ge (by omega) (by omega))]
          have k1 : (nI j).toNatClampNeg = j := nI_clamp (by omega)
          simp only [lt_is, gd_t (inb_nI (show j < 64 by omega) (by decide)), k1, hg.2 j hj hn]
          rw [if_pos trivial]
          unfold f1_tries_0_j151
          rw [lt_is, nI_1]
          exact ok_i (Or.inl ⟨(_, x), rfl, ⟨n, hn8, rfl, rfl⟩, e3, hA', ⟨hL, hq⟩, hg', hro⟩)
      · rintro x z ⟨-, h⟩
        dsimp only
        unfold f1_tries_0_s2 f14_tryAims_s3
        rw [show (64 : Int32) = nI 64 from rfl, if_pos (nI_le (Nat.le_refl _) (by decide)), cells_is w9 w10, bind_is, if_pos (nI_le (Nat.le_refl _) (by omega))]
        exact ok_i (ok_i ⟨_, _, rfl, rfl, h⟩)
    · rintro x z ⟨e3, hA', ⟨hL, hq⟩, hg', hro⟩
      unfold f1_tries_0_e2_0 f14_tryAims_e3_0
      obtain ⟨a, ea, mm, em, zz, ez, u, eu, n1, ⟨n2, n3⟩, n4, n5, n6⟩ := aim_next_0 (tt := 0) (p4 := -1) (p14 := -1) (v := 0) (h14 := z.2.2.2.2.2.1) (st := z.2.2.2.2.2.2.1) (row := z.2.2.2.2.2.2.2.1) hD (by omega) w9 w10 w11 hC hR ht (by decide) (min_no t) hZ hl (Or.inl ⟨rfl, rfl⟩) x.2.1 l92 x.2.2.1 x.2.2.2.1 x.2.2.2.2.1 y x.2.2.2.2.2.1 x.2.2.2.2.2.2.1 x.2.2.2.2.2.2.2.1 x.2.2.2.2.2.2.2.2.1 x.2.2.2.2.2.2.2.2.2.1 x.2.2.2.2.2.2.2.2.2.2.1 x.2.2.2.2.2.2.2.2.2.2.2.1 x.2.2.2.2.2.2.2.2.2.2.2.2.1 f92 w92 b92 x.2.2.2.2.2.2.2.2.2.2.2.2.2.1 x.2.2.2.2.2.2.2.2.2.2.2.2.2.2.1 x.2.2.2.2.2.2.2.2.2.2.2.2.2.2.2.1 x.2.2.2.2.2.2.2.2.2.2.2.2.2.2.2.2.1 x.2.2.2.2.2.2.2.2.2.2.2.2.2.2.2.2.2.1 x.2.2.2.2.2.2.2.2.2.2.2.2.2.2.2.2.2.2.1 x.2.2.2.2.2.2.2.2.2.2.2.2.2.2.2.2.2.2.2.1 x.2.2.2.2.2.2.2.2.2.2.2.2.2.2.2.2.2.2.2.2.1 x.2.2.2.2.2.2.2.2.2.2.2.2.2.2.2.2.2.2.2.2.2.1 x.2.2.2.2.2.2.2.2.2.2.2.2.2.2.2.2.2.2.2.2.2.2.1 x.2.2.2.2.2.2.2.2.2.2.2.2.2.2.2.2.2.2.2.2.2.2.2.1 x.2.2.2.2.2.2.2.2.2.2.2.2.2.2.2.2.2.2.2.2.2.2.2.2.1 x.2.2.2.2.2.2.2.2.2.2.2.2.2.2.2.2.2.2.2.2.2.2.2.2.2.1 x.2.2.2.2.2.2.2.2.2.2.2.2.2.2.2.2.2.2.2.2.2.2.2.2.2.2 hg' hg hL hbl (fun j hj => (hro j hj).1.trans ((hrow j hj).trans (hro j hj).2.symm)) hA'
      have kd : (nI 0).toNatClampNeg = 0 := nI_clamp (by decide)
      have em' : f14_minute (-1) 0 (nI l) w z.2.2.1 z.2.2.2.1 z.2.2.2.2.1 z.2.2.2.2.2.1 = some mm := em
      rw [e3, ea, bind_is]
      simp only [gd_t (show inb (nI 0) 3 by decide), lt_is, nI_1, kd, em', bind_is]
      rw [ez, bind_is, eu, bind_is]
      exact ok_i (ok_i ⟨n1, fun q hq' => (n3 q hq').trans (hq q hq'), fun j hj => ⟨(n5 j hj).1.trans (hro j hj).1, (n5 j hj).2.trans (hro j hj).2⟩, n6⟩)
