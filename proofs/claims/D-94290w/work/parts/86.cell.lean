/-! the plain law: cell -/
set_option maxRecDepth 100000
theorem cell_eq {z y n M C R P : Nat} {adS : Nat → Nat} {K : gK} {I : gI} {J : gJ} {X : gX} {A : gI} {B : gJ} {Q : gX} {w : Nat → Int32} {bg : Int32} (hfr : freshz z K n) (hIS : IS z K X Q) (hy : X 200 (z + 7) = some y) (hsh : Sh K X y 3 rows3) (hm : ∀ j m, Q (y + 1) j = some m → K m = some (.inl 12)) (hbg : bg = 0 ∨ bg = 1) (hY : YV M C R P (fun k => I k y) (A (y + 2)) (A (y + 3)) (Q (y + 1)) I (layF bg w)) (p q r th : Int32) :
    Ok (w0_cell z adS z p q r (z + 171) K I J X A B Q n) (fun x => Ok (f14_cell p q r th bg w) (fun t => t.2.2.1 = 1 ∧ t.2.2.2 = layF bg w ∧ Ans z K I J X A B Q n t.2.1 t.1 x)) := by
  obtain ⟨⟨hS0, -, hL⟩, ⟨hK7, hX9⟩, -⟩ := hIS
  have hk : ∃ a, K a ≠ none := ⟨z, by rw [hS0.1]; exact fun h => nomatch h⟩
  obtain ⟨⟨-, hC, hR, -⟩, ⟨-, -, g4, w9, g5, w10, -⟩, -, -, -, hcell⟩ := hY
  have hlen : alen K (z + 171) 3 = some 1 := by
    unfold alen
    rw [hL]
    exact if_pos rfl
  have hfl : alen K (y + 2) 0 = some 64 := by
    unfold alen
    rw [(hsh.2 1 _ rfl).1]
    exact if_pos rfl
  have hbl : alen K (y + 3) 1 = some 64 := by
    unfold alen
    rw [(hsh.2 2 _ rfl).1]
    exact if_pos rfl
  unfold w0_cell w1_cell f14_cell
  rw [gdp_t hk, gdp_t hS0.1, gdp_t (by decide), gdp_t hk, gdp_t hS0.1, lt_is, hX9, bind_is, gdp_t hK7, lt_is, hy, bind_is, gdp_t hsh, lay_ok hbg, bind_is]
  have hbad : ∀ (j : Option ((Nat ⊕ Int32) × gK × gI × gJ × gX × gI × gJ × gX × Nat)), j = w1_cell_j28 z adS z p q r K n I J X A B Q → Ok (j.bind fun r2 => trs r2.1 (fun b5 => gdp (r2.2.1 b5 = some (.inl 19)) <| gdp ((0 + 1) ≤ 1 ∧ (0 + 6) ≤ 6) <| some ((1 : Int32), r2.2.1, r2.2.2.1, r2.2.2.2.1, r2.2.2.2.2.1, r2.2.2.2.2.2.1, r2.2.2.2.2.2.2.1, r2.2.2.2.2.2.2.2.1, r2.2.2.2.2.2.2.2.2)) fun v4 => lt (v4.toInt64) fun v8 => (alen r2.2.1 (z + 171) 3).bind fun n9 => gdp (inb (0 : Int32) n9) <| lt (a_up r2.2.2.2.2.2.2.1 (z + 171) (vp_updL (r2.2.2.2.2.2.2.1 (z + 171)) (0 : Int32).toNatClampNeg v8)) fun Bm11 => gdp ((0 + 1) ≤ 1 ∧ (0 + 6) ≤ 6) <| some ((0 : Int32), r2.2.1, r2.2.2.1, r2.2.2.2.1, r2.2.2.2.2.1, r2.2.2.2.2.2.1, Bm11, r2.2.2.2.2.2.2.2.1, r2.2.2.2.2.2.2.2.2)) (fun x => Ok (f14_cell_j40 ((1 : Int32), layF bg w) th) (fun t => t.2.2.1 = 1 ∧ t.2.2.2 = layF bg w ∧ Ans z K I J X A B Q n t.2.1 t.1 x)) := by
    rintro j rfl
    have h19 : (a_up K n (some (.inl 19))) n = some (.inl 19) := by unfold a_up; exact if_pos rfl
    unfold w1_cell_j28 w1_cell_j29 f14_cell_j40 f14_refuse
    rw [gdp_t (by decide), must0 hfr hk, bind_is]
    dsimp only [trs]
    rw [gdp_t h19, gdp_t (by decide), bind_is]
    dsimp only [trs]
    rw [gdp_t h19, gdp_t (by decide), bind_is]
    exact ok_i (ok_i ⟨rfl, rfl, Or.inl ⟨rfl, rfl⟩⟩)
  have e4 : I 304 y = nI C := g4
  have e5 : I 305 y = nI R := g5
  rw [e4, e5, columns_is, bind_is]
  dsimp only
  rw [gd_t (show inb (10 : Int32) 800 by decide)]
  rcases isCell_or p q (C := C) (R := R) (by omega) (by omega) with ⟨e, rr, c, hr, hc, rfl, rfl⟩ | ⟨e, hno⟩
  · rw [e, bind_is, if_neg (show ¬ (1 : Int32) = 0 by decide), if_neg (nI_pos (show c < 2 ^ 31 by omega)), if_neg (show ¬ layF bg w 9 ≤ nI c by rw [w9]; exact nI_ge hc (by omega)), if_neg (nI_pos (show rr < 2 ^ 31 by omega))]
    have hten : ∀ (F : Int32 → Option (Int32 × Int32 × Int32 × (Nat → Int32))), (lt (layF bg w (10 : Int32).toNatClampNeg) fun v8 => F v8) = F (nI R) := fun F => by
      show F (layF bg w 10) = F (nI R)
      rw [w10]
    rw [hten, if_neg (nI_ge hr (by omega))]
    rcases isIn_cc r (a := 0) (b := 1) (A := 0) (B := 1) rfl rfl (by decide) (by decide) with ⟨u, u', -⟩ | ⟨u, u', k, -, hk1, rfl⟩
    · rw [u, u', bind_is, bind_is, if_pos rfl, if_pos rfl]
      exact hbad _ rfl
    · rw [u, u', bind_is, bind_is, if_neg (show ¬ (1 : Int32) = 0 by decide), if_neg (show ¬ (1 : Int32) = 0 by decide)]
      have hlt := cell_lt hC hR hr hc
      have k1 : (nI (8 * rr + c)).toNatClampNeg = 8 * rr + c := nI_clamp (by omega)
      rcases hcell rr c (by omega) (by omega) with ⟨-, -, f, b, hf9, hb1, c1, d1, c2, d2⟩ | ⟨h, -⟩
      rotate_left
      · exact absurd ⟨hr, hc⟩ h
      · have hfin : ∀ v x : Int32, x = v → Ok (some ((0 : Int32), K, I, J, X, A, a_up B (z + 171) (vp_updL (B (z + 171)) (0 : Int32).toNatClampNeg v.toInt64), Q, n)) (fun x' => Ok (some (x, (0 : Int32), (1 : Int32), layF bg w)) (fun t => t.2.2.1 = 1 ∧ t.2.2.2 = layF bg w ∧ Ans z K I J X A B Q n t.2.1 t.1 x')) := by
          intro v x hv
          exact ok_i (ok_i ⟨rfl, rfl, Or.inr ⟨rfl, by rw [hv]⟩⟩)
        have j66 : ∀ g : Nat, g ≤ 130 → f14_cell_j66 (nI c) (nI rr) ((1 : Int32), layF bg w) (nI g) = some (layF bg w (g + (C * rr + c)), 0, 1, layF bg w) := by
          intro g hg
          have k2 : (nI (g + (C * rr + c))).toNatClampNeg = g + (C * rr + c) := nI_clamp (by omega)
          unfold f14_cell_j66
          simp only [columns_is, w9, bind_is, lt_is, pk_mul, nI_add, Nat.add_assoc, gd_t (inb_nI (show g + (C * rr + c) < 800 by omega) (by decide)), k2]
        unfold w1_cell_j29
        rw [gdp_t (by decide), must1 hk, bind_is]
        dsimp only [trs]
        rcases (show k = 0 ∨ k = 1 by omega) with rfl | rfl
        · rw [if_pos (show nI 0 = 0 from rfl), if_pos (show nI 0 = 0 from rfl), show (60 : Int32) = nI 60 from rfl, j66 60 (by decide)]
          simp only [gdp_t hS0.1, lt_is, hX9, bind_is, gdp_t hK7, hy, gdp_t hsh.1, (hsh.2 1 _ rfl).2, show (8 : Int32) = nI 8 from rfl, pk_mul, nI_add, hfl, gdp_t (inb_nI (show 8 * rr + c < 64 by omega) (by decide)), k1, gdp_t (show 0 + 1 ≤ 1 ∧ 0 + 6 ≤ 6 by decide), hlen, gdp_t (show inb (0 : Int32) 1 by decide)]
          exact hfin _ _ (d1.trans c1.symm)
        · rw [if_neg (show ¬ nI 1 = 0 by decide), if_neg (show ¬ nI 1 = 0 by decide), show (130 : Int32) = nI 130 from rfl, j66 130 (by decide)]
          simp only [gdp_t hS0.1, lt_is, hX9, bind_is, gdp_t hK7, hy, gdp_t hsh.1, (hsh.2 2 _ rfl).2, show (8 : Int32) = nI 8 from rfl, pk_mul, nI_add, hbl, gdp_t (inb_nI (show 8 * rr + c < 64 by omega) (by decide)), k1, gdp_t (show 0 + 1 ≤ 1 ∧ 0 + 6 ≤ 6 by decide), c2]
          rcases hb1 with rfl | ⟨rfl, -⟩
          · rw [if_pos (show nI 0 = 0 from rfl)]
            simp only [bind_is, hlen, gdp_t (show inb (0 : Int32) 1 by decide)]
            exact hfin _ _ d2
          · rw [if_neg (show ¬ nI 1 = 0 by decide)]
            simp only [bind_is, hlen, gdp_t (show inb (0 : Int32) 1 by decide)]
            exact hfin _ _ d2
  · rw [e, bind_is, if_pos rfl]
    by_cases h0 : p < 0
    · rw [if_pos h0]
      exact hbad _ rfl
    · rw [if_neg h0]
      rcases pk_ix p (n := C) (by omega) with h | h | ⟨c, hc, rfl⟩
      · exact absurd h h0
      · rw [if_pos (show layF bg w 9 ≤ p by rw [w9]; exact h)]
        exact hbad _ rfl
      · rw [if_neg (show ¬ layF bg w 9 ≤ nI c by rw [w9]; exact nI_ge hc (by omega))]
        by_cases h1 : q < 0
        · rw [if_pos h1]
          exact hbad _ rfl
        · rw [if_neg h1]
          rcases pk_ix q (n := R) (by omega) with h | h | ⟨rr, hr, rfl⟩
          · exact absurd h h1
          · have hten : ∀ (F : Int32 → Option (Int32 × Int32 × Int32 × (Nat → Int32))), (lt (layF bg w (10 : Int32).toNatClampNeg) fun v8 => F v8) = F (nI R) := fun F => by
              show F (layF bg w 10) = F (nI R)
              rw [w10]
            rw [hten, if_pos h]
            exact hbad _ rfl
          · exact (hno rr c hr hc rfl rfl).elim
