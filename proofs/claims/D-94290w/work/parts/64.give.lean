/-! the plain law: give, enough -/
set_option maxRecDepth 100000
def cut (i c : Nat) (F : Nat → Nat → Nat) (r k : Nat) : Nat := if r < i ∧ k = c then 0 else F r k
theorem give_ok {C R Z c : Nat} {F B V : Nat → Nat → Nat} {f1 v1 b1 f14 v14 b14 w : Nat → Int32} (h : Gr C R Z F B V f1 v1 b1 f14 v14 b14) (w9 : w 9 = nI C) (w10 : w 10 = nI R) (hC : C ≤ 8) (hR : R ≤ 8) (hc : c < C) :
    Ok (f12_give (nI c) (nI R) f1 b1) (fun x => Ok (f14_givesUp (nI c) w f14 b14) (fun y => ∃ T F' B', T ≤ 72 ∧ x.1 = nI T ∧ y.1 = nI T ∧ Gr C R Z F' B' V x.2.1 v1 x.2.2 y.2.1 v14 y.2.2)) := by
  unfold f12_give f14_givesUp
  refine ok_b2 (S := fun (x : Int32 × (Nat → Int32) × (Nat → Int32)) (y : Int32 × (Nat → Int32) × (Nat → Int32)) => ∃ T F' B', T ≤ 72 ∧ x.1 = nI T ∧ y.1 = nI T ∧ Gr C R Z F' B' V x.2.1 v1 x.2.2 y.2.1 v14 y.2.2) ?_ (fun x y h => ok_i (ok_i h))
  refine for2_ok (fun i (x : Int32 × (Nat → Int32) × (Nat → Int32)) => (x.1, nI i, x.2)) (fun i (x : Int32 × (Nat → Int32) × (Nat → Int32)) => (x.1, nI i, x.2)) (fun i x y => ∃ T, T ≤ 9 * i ∧ x.1 = nI T ∧ y.1 = nI T ∧ Gr C R Z (cut i c F) (cut i c B) V x.2.1 v1 x.2.2 y.2.1 v14 y.2.2) R (by omega) (x := ((0 : Int32), f1, b1)) (x2 := ((0 : Int32), f14, b14)) ⟨0, Nat.le_refl _, rfl, rfl, ?_⟩ ?_ ?_
  · have e : ∀ G, cut 0 c G = G := fun G => by
      funext r k
      exact if_neg (fun h => absurd h.1 (Nat.not_lt_zero _))
    rw [e, e]
    exact h
  · rintro i ⟨x1, x2, x3⟩ ⟨y1, y2, y3⟩ hi ⟨T, hT, e1, e2, hg⟩
    dsimp only at e1 e2 hg ⊢
    subst e1 e2
    obtain ⟨⟨hF, -, -⟩, ⟨a1, a2⟩, -, -⟩ := hg.1 i c hi hc
    have hlt := cell_lt hC hR hi hc
    have k1 : (nI (8 * i + c)).toNatClampNeg = 8 * i + c := nI_clamp (by omega)
    have k2 : (nI (C * i + c)).toNatClampNeg = C * i + c := nI_clamp (by omega)
    unfold f12_give_s1 f14_givesUp_s1
    rw [gd_t (show inb (10 : Int32) 800 by decide)]
    simp only [lt_is, show (10 : Int32).toNatClampNeg = 10 from rfl]
    rw [if_neg (nI_ge hi (by omega)), if_neg (show ¬ w 10 ≤ nI i by rw [w10]; exact nI_ge hi (by omega))]
    simp only [columns_is, w9, bind_is, lt_is, show (8 : Int32) = nI 8 from rfl, pk_mul, nI_add, gd_t (inb_nI (show 8 * i + c < 64 by omega) (by decide)), gd_t (inb_nI (show C * i + c < 64 by omega) (by decide)), k1, k2, a1, a2, nI_1, vz0]
    refine ok_i (ok_i ⟨(_, _, _), (_, _, _), rfl, rfl, T + cut i c F i c, by omega, rfl, rfl, ?_, ?_⟩)
    · intro r k hr hk
      obtain ⟨⟨b1', b2', b3'⟩, ⟨b4, b5⟩, ⟨b6, b7⟩, b8⟩ := hg.1 r k hr hk
      have hcu : ∀ G : Nat → Nat → Nat, cut (i + 1) c G r k = if r = i ∧ k = c then 0 else cut i c G r k := by
        intro G
        unfold cut
        by_cases q : r = i ∧ k = c
        · rw [if_pos q, if_pos ⟨by omega, q.2⟩]
        · rw [if_neg q]
          by_cases q2 : r < i ∧ k = c
          · rw [if_pos q2, if_pos ⟨by omega, q2.2⟩]
          · rw [if_neg q2, if_neg (by omega)]
      rw [hcu, hcu]
      by_cases q : r = i ∧ k = c
      · obtain ⟨q1, q2⟩ := q
        subst q1 q2
        rw [if_pos ⟨rfl, rfl⟩, if_pos ⟨rfl, rfl⟩]
        dsimp only
        rw [pk_us, pk_us, pk_us, pk_us]
        exact ⟨⟨by omega, Or.inl rfl, b3'⟩, ⟨rfl, rfl⟩, ⟨rfl, rfl⟩, b8⟩
      · rw [if_neg q, if_neg q]
        dsimp only
        have n1 : ¬ 8 * r + k = 8 * i + c := fun h => q (by omega)
        have n2 : ¬ C * r + k = C * i + c := fun h => q (cell_inj hk hc h)
        rw [pk_un n1, pk_un n2, pk_un n1, pk_un n2]
        exact ⟨⟨b1', b2', b3'⟩, ⟨b4, b5⟩, ⟨b6, b7⟩, b8⟩
    · intro j hj hn
      dsimp only
      by_cases q : j = 8 * i + c
      · subst q
        rw [pk_us]
      · rw [pk_un q]
        exact hg.2 j hj hn
  · rintro ⟨x1, x2, x3⟩ ⟨y1, y2, y3⟩ ⟨T, hT, e1, e2, hg⟩
    dsimp only at e1 e2 hg ⊢
    unfold f12_give_s1 f14_givesUp_s1
    rw [gd_t (show inb (10 : Int32) 800 by decide)]
    simp only [lt_is, show (10 : Int32).toNatClampNeg = 10 from rfl]
    rw [if_pos (nI_le (Nat.le_refl _) (by omega)), if_pos (show w 10 ≤ nI R by rw [w10]; exact nI_le (Nat.le_refl _) (by omega))]
    exact ok_i (ok_i ⟨_, _, rfl, rfl, T, _, _, by omega, e1, e2, hg⟩)
theorem lost_none {M C R P t : Nat} {g fuel burns : Nat → Int32} {men : Nat → Option Nat} {IM : Nat → Nat → Int32} {w : Nat → Int32} (hY : YV M C R P g fuel burns men IM w) (ht : t ≤ 999) (l1 l14 oat : Int32) (f v h b f' v' b' h' fw bw : Nat → Int32) :
    Ok (f1_lostBy (-1) (nI t) (nI C) (nI R) (w 11) l1 f v h b fuel burns) (fun x => Ok (f14_light l14 w f' b' v') (fun z => Ok (f14_fires 30 (nI t) 1 0 z.1 oat w z.2.1 z.2.2.1 z.2.2.2 h' fw bw) (fun y => ∃ l, l ≤ 2000 ∧ x.1 = nI l ∧ y.1 = nI l))) := by
  obtain ⟨x, ex, z, ez, e0, e1, F, B, hg⟩ := light_eq hY l1 l14 f v b f' v' b'
  obtain ⟨⟨-, hC, hR, -⟩, ⟨-, -, -, w9, -, w10, -⟩, -, -, -, hcell⟩ := hY
  obtain ⟨q, eq, y, ey, l, hl, e2, e3⟩ := half_eq (t := t) (wnd := w 11) (oat := oat) (ht1 := h) (ht14 := h') (fw := fw) (bw := bw) hg w9 w10 rfl hC hR ht
  unfold f1_lostBy
  rw [ex, bind_is, if_pos rfl]
  unfold f1_lostBy_j31 f1_lostBy_e2_0
  rw [e0, eq, bind_is, lt_is]
  refine ok_i (ok_eq ez ?_)
  rw [e1]
  refine ok_eq ey ⟨l, hl, ?_, e3⟩
  dsimp only
  rw [e2, z_0, nI_add, Nat.zero_add]
theorem lost_by {M C R P t c : Nat} {g fuel burns : Nat → Int32} {men : Nat → Option Nat} {IM : Nat → Nat → Int32} {w : Nat → Int32} (hY : YV M C R P g fuel burns men IM w) (ht : t ≤ 999) (hc : c < C) (l1 l14 oat : Int32) (f v h b f' v' b' h' fw bw : Nat → Int32) :
    Ok (f1_lostBy (nI c) (nI t) (nI C) (nI R) (w 11) l1 f v h b fuel burns) (fun x => Ok (f14_light l14 w f' b' v') (fun z => Ok (f14_givesUp (nI c) w z.2.1 z.2.2.1) (fun u => Ok (f14_fires 30 (nI t) 1 0 z.1 oat w u.2.1 u.2.2 z.2.2.2 h' fw bw) (fun y => ∃ l T, l ≤ 2000 ∧ T ≤ 72 ∧ x.1 = nI (l + T) ∧ y.1 = nI l ∧ u.1 = nI T)))) := by
  obtain ⟨x, ex, z, ez, e0, e1, F, B, hg⟩ := light_eq hY l1 l14 f v b f' v' b'
  obtain ⟨⟨-, hC, hR, -⟩, ⟨-, -, -, w9, -, w10, -⟩, -, -, -, hcell⟩ := hY
  obtain ⟨p, ep, u, eu, T, F', B', hT, f1, f2, hg'⟩ := give_ok hg w9 w10 hC hR hc
  obtain ⟨q, eq, y, ey, l, hl, e2, e3⟩ := half_eq (t := t) (wnd := w 11) (oat := oat) (ht1 := h) (ht14 := h') (fw := fw) (bw := bw) hg' w9 w10 rfl hC hR ht
  unfold f1_lostBy
  rw [ex, bind_is, if_neg (nI_nm1 (by omega)), ep, bind_is]
  unfold f1_lostBy_j31 f1_lostBy_e2_0
  rw [e0, eq, bind_is, lt_is]
  refine ok_i (ok_eq ez (ok_eq eu ?_))
  rw [e1]
  refine ok_eq ey ⟨l, T, hl, hT, ?_, e3, f2⟩
  dsimp only
  rw [e2, f1, nI_add, Nat.add_comm]
theorem litres_cc (p : Int32) : (f1_areLitres p = some 0 ∧ f14_isIn p 0 999 = some 0) ∨ (f1_areLitres p = some 1 ∧ f14_isIn p 0 999 = some 1 ∧ ∃ j : Nat, j ≤ 999 ∧ p = nI j) := by
  unfold f1_areLitres
  rcases isIn_cc p (a := 0) (b := 999) (A := 0) (B := 999) rfl rfl (by decide) (by decide) with ⟨e, e', -⟩ | ⟨e, e', j, -, hj, rfl⟩
  · rw [e, e', bind_is, gd_t (by decide)]
    exact Or.inl ⟨rfl, rfl⟩
  · rw [e, e', bind_is, gd_t (by decide)]
    exact Or.inr ⟨rfl, rfl, j, hj, rfl⟩
theorem give_eq {M C R P : Nat} {g fuel burns : Nat → Int32} {men : Nat → Option Nat} {IM : Nat → Nat → Int32} {w : Nat → Int32} {bg : Int32} (hbg : bg = 0 ∨ bg = 1) (hY : YV M C R P g fuel burns men IM (layF bg w)) (p : Int32) (y : Nat) (l1 l14 oa th : Int32) (x0 : Option Nat) (f v h b f' v' b' h' fw bw : Nat → Int32) :
    Ok (f1_give p y (g 304) (g 305) (g 314) l1 x0 f v h b fuel burns) (fun x => Ok (f14_give p th bg l14 oa w f' b' v' h' fw bw) (fun z => x.1 = z.1 ∧ z.2.1 = 0 ∧ z.2.2.1 = 1 ∧ z.2.2.2.2.2.1 = layF bg w)) := by
  have hY0 := hY
  obtain ⟨⟨-, hC, hR, -⟩, ⟨-, -, g4, w9, g5, w10, -⟩, -, ⟨g14, -⟩, -⟩ := hY0
  unfold f1_give f14_give
  rw [lay_ok hbg, bind_is, g4, g5, g14]
  dsimp only
  rcases litres_cc p with ⟨e, e'⟩ | ⟨e, e', t, ht, rfl⟩
  · rw [e, e', bind_is, bind_is, if_pos rfl, if_pos rfl]
    exact ok_i (ok_i ⟨rfl, rfl, rfl, rfl⟩)
  · rw [e, e', bind_is, bind_is, if_neg (by decide), if_neg (by decide)]
    obtain ⟨x, ex, z, ez, q, eq, l, hl, e1, e2⟩ := lost_none hY ht l1 l14 oa f v h b f' v' b' h' fw bw
    rw [ex, bind_is, ez, bind_is, eq, bind_is]
    refine ok_b2 (S := fun (x : Int32 × Int32 × (Option Nat) × (Nat → Int32) × (Nat → Int32) × (Nat → Int32) × (Nat → Int32)) (y : Int32 × Int32 × Int32 × (Nat → Int32) × (Nat → Int32) × (Nat → Int32) × (Nat → Int32) × (Nat → Int32) × (Nat → Int32)) => x.1 = y.1) ?_ (fun x y h => ok_i (ok_i ⟨h, rfl, rfl, rfl⟩))
    refine for2_ok (fun i (x : Int32 × Int32 × Int32 × (Option Nat) × (Nat → Int32) × (Nat → Int32) × (Nat → Int32) × (Nat → Int32)) => (x.1, x.2.1, nI i, x.2.2)) (fun i (x : Int32 × Int32 × Int32 × Int32 × (Nat → Int32) × (Nat → Int32) × (Nat → Int32) × (Nat → Int32) × (Nat → Int32) × (Nat → Int32)) => (x.1, x.2.1, nI i, x.2.2)) (fun i x y => ∃ l, l ≤ 3000 ∧ x.2.1 = nI l ∧ y.1 = nI l ∧ x.1 = y.2.1) C (by omega) (x := ((-1 : Int32), x.1, x.2.1, some y, x.2.2)) (x2 := (q.1, (-1 : Int32), q)) ⟨l, by omega, e1, e2, rfl⟩ ?_ ?_
    · rintro i ⟨x1, x2, x3⟩ ⟨y1, y2, y3⟩ hi ⟨l, hl, e1, e2, e3⟩
      dsimp only at e1 e2 e3 ⊢
      subst e1 e2 e3
      unfold f1_give_s4 f14_give_s6
      rw [columns_is, bind_is, if_neg (nI_ge hi (by omega))]
      rw [if_neg (show ¬ layF bg w 9 ≤ nI i by rw [w9]; exact nI_ge hi (by omega))]
      obtain ⟨p', ep, z', ez', u, eu, q', eq', l', T, hl', hT, f1, f2, f3⟩ := lost_by hY ht hi x3.1 y3.1 y3.2.1 x3.2.2.1 x3.2.2.2.1 x3.2.2.2.2.1 x3.2.2.2.2.2 y3.2.2.1 y3.2.2.2.2.1 y3.2.2.2.1 y3.2.2.2.2.2.1 y3.2.2.2.2.2.2.1 y3.2.2.2.2.2.2.2
      rw [ep, bind_is, ez', bind_is, eu, bind_is, eq', bind_is, lt_is]
      unfold f1_give_j60 f14_give_j100
      simp only [lt_is, nI_1]
      by_cases hlt : l' + T < l
      · rw [if_pos (show p'.1 < nI l by rw [f1]; exact nI_lt hlt (by omega)), if_pos (show q'.1 + u.1 < nI l by rw [f2, f3, nI_add]; exact nI_lt hlt (by omega))]
        exact ok_i (ok_i ⟨(_, _, _), (_, _, _), rfl, rfl, l' + T, by omega, f1, by rw [← nI_add, ← f2, ← f3], rfl⟩)
      · rw [if_neg (show ¬ p'.1 < nI l by rw [f1]; exact nI_nlt (by omega) (by omega)), if_neg (show ¬ q'.1 + u.1 < nI l by rw [f2, f3, nI_add]; exact nI_nlt (by omega) (by omega))]
        exact ok_i (ok_i ⟨(_, _, _), (_, _, _), rfl, rfl, l, hl, rfl, rfl, rfl⟩)
    · rintro x y ⟨l, hl, e1, e2, e3⟩
      dsimp only
      unfold f1_give_s4 f14_give_s6
      rw [columns_is, bind_is, if_pos (nI_le (Nat.le_refl _) (by omega))]
      rw [if_pos (show layF bg w 9 ≤ nI C by rw [w9]; exact nI_le (Nat.le_refl _) (by omega))]
      exact ok_i (ok_i ⟨_, _, rfl, rfl, e3⟩)
