/-! the plain law: a barn that burns, minute by minute -/
set_option maxRecDepth 100000
/-- the same place, told apart -/
theorem cell_inj {C r c r' c' : Nat} (hc : c < C) (hc' : c' < C) (h : C * r + c = C * r' + c') : r = r' ∧ c = c' := by
  have h1 : (C * r + c) / C = r := by rw [Nat.mul_add_div (by omega), Nat.div_eq_of_lt hc, Nat.add_zero]
  have h2 : (C * r' + c') / C = r' := by rw [Nat.mul_add_div (by omega), Nat.div_eq_of_lt hc', Nat.add_zero]
  have h3 : r = r' := by rw [← h1, ← h2, h]
  subst h3
  exact ⟨rfl, by omega⟩
theorem cell_lt {C R r c : Nat} (hC : C ≤ 8) (hR : R ≤ 8) (hr : r < R) (hc : c < C) : C * r + c < C * R ∧ C * r + c < 64 := by
  have h1 : C * (r + 1) ≤ C * R := Nat.mul_le_mul_left C hr
  have h2 : C * R ≤ 8 * 8 := Nat.mul_le_mul hC hR
  rw [Nat.mul_succ] at h1
  omega
/-- the cells: fuel F, whether it burns B, how wet V, at most Z -/
def Gr (C R Z : Nat) (F B V : Nat → Nat → Nat) (f1 v1 b1 f14 v14 b14 : Nat → Int32) : Prop :=
  (∀ r c, r < R → c < C → (F r c ≤ 9 ∧ (B r c = 0 ∨ B r c = 1 ∧ 1 ≤ F r c) ∧ V r c ≤ Z) ∧ (f1 (8 * r + c) = nI (F r c) ∧ f14 (C * r + c) = nI (F r c)) ∧ (b1 (8 * r + c) = nI (B r c) ∧ b14 (C * r + c) = nI (B r c)) ∧ (v1 (8 * r + c) = nI (V r c) ∧ v14 (C * r + c) = nI (V r c))) ∧ (∀ j, j < 64 → ¬ (j / 8 < R ∧ j % 8 < C) → b1 j = 0)
/-- how much of a neighbour's fuel warms: the wind blows from it -/
def gW (wnd : Int32) (d f : Nat) : Nat := if wnd = nI d then 2 * f else if wnd = -1 then f else if wnd = nI ((d + 2) % 4) then 0 else f
def gV (C R : Nat) (wnd : Int32) (F B : Nat → Nat → Nat) (d : Nat) (ok : Bool) (r c : Nat) : Nat := if ok = true ∧ r < R ∧ c < C then if B r c = 0 then 0 else gW wnd d (F r c) else 0
/-- how hot a cell gets -/
def Hv (C R : Nat) (wnd : Int32) (F B : Nat → Nat → Nat) (r c : Nat) : Nat :=
  if B r c = 1 then 0 else if F r c = 0 then 0 else gV C R wnd F B 0 true (r + 1) c + gV C R wnd F B 1 (decide (0 < c)) r (c - 1) + gV C R wnd F B 2 (decide (0 < r)) (r - 1) c + gV C R wnd F B 3 true r (c + 1)
theorem gW_le {wnd : Int32} {d f : Nat} (h : f ≤ 9) : gW wnd d f ≤ 18 := by
  unfold gW
  split
  · omega
  · split
    · omega
    · split <;> omega
theorem isCell_in {C R r c : Nat} (hC : C ≤ 8) (hR : R ≤ 8) (hr : r < R) (hc : c < C) : f4_isCell (nI c) (nI r) (nI C) (nI R) = some 1 := by
  unfold f4_isCell
  rw [lt_is, show nI C - 1 = nI (C - 1) from by rw [show (1 : Int32) = nI 1 from rfl, pk_sub (by omega)], isIn1, if_neg (nI_pos (by omega)), if_neg (nI_nlt (by omega) (by omega)), bind_is, if_neg (by decide), lt_is, show nI R - 1 = nI (R - 1) from by rw [show (1 : Int32) = nI 1 from rfl, pk_sub (by omega)], isIn1, if_neg (nI_pos (by omega)), if_neg (nI_nlt (by omega) (by omega)), bind_is, if_neg (by decide)]
/-- a number lies within 0 .. C - 1 or not -/
theorem isIn_cnt (p : Int32) {C : Nat} (hC : C < 2 ^ 29) : (f1_isIn p 0 (nI C - 1) = some 1 ∧ ∃ c, c < C ∧ p = nI c) ∨ (f1_isIn p 0 (nI C - 1) = some 0 ∧ (p < 0 ∨ nI C ≤ p) ∧ ∀ c, c < C → ¬ p = nI c) := by
  rw [isIn1]
  by_cases h1 : p < 0
  · rw [if_pos h1]
    refine Or.inr ⟨rfl, Or.inl h1, fun c hc e => ?_⟩
    subst e
    exact nI_pos (by omega) h1
  · rw [if_neg h1]
    obtain ⟨j, hj, rfl⟩ := nI_of h1
    have hlt : nI C - 1 < nI j ↔ C ≤ j := by
      rw [Int32.lt_iff_toInt_lt, show (1 : Int32) = nI 1 from rfl, pk_sub_toInt (by omega) (by decide), nI_toInt hj]
      omega
    by_cases h2 : C ≤ j
    · rw [if_pos (hlt.mpr h2)]
      refine Or.inr ⟨rfl, Or.inr (nI_le h2 hj), fun c hc e => ?_⟩
      have := (nI_eq hj (by omega)).mp e
      omega
    · rw [if_neg (fun q => h2 (hlt.mp q))]
      exact Or.inl ⟨rfl, j, by omega, rfl⟩
theorem isCell_or (p1 p2 : Int32) {C R : Nat} (hC : C < 2 ^ 29) (hR : R < 2 ^ 29) : (f4_isCell p1 p2 (nI C) (nI R) = some 1 ∧ ∃ r c, r < R ∧ c < C ∧ p1 = nI c ∧ p2 = nI r) ∨ (f4_isCell p1 p2 (nI C) (nI R) = some 0 ∧ ∀ r c, r < R → c < C → p1 = nI c → p2 = nI r → False) := by
  unfold f4_isCell f4_isCell_j32
  rw [lt_is]
  rcases isIn_cnt p1 hC with ⟨e, c, hc, rfl⟩ | ⟨e, -, hno⟩
  · rw [e, bind_is, if_neg (by decide), lt_is]
    rcases isIn_cnt p2 hR with ⟨e2, r, hr, rfl⟩ | ⟨e2, -, hno⟩
    · rw [e2, bind_is, if_neg (by decide)]
      exact Or.inl ⟨rfl, r, c, hr, hc, rfl, rfl⟩
    · rw [e2, bind_is, if_pos rfl]
      exact Or.inr ⟨rfl, fun r c hr _ _ e3 => hno r hr e3⟩
  · rw [e, bind_is, if_pos rfl]
    exact Or.inr ⟨rfl, fun r c _ hc e3 _ => hno c hc e3⟩
/-- PailRow's side alone -/
def Gp (C R : Nat) (F B : Nat → Nat → Nat) (f1 b1 : Nat → Int32) : Prop := (∀ r c, r < R → c < C → F r c ≤ 9 ∧ (B r c = 0 ∨ B r c = 1 ∧ 1 ≤ F r c) ∧ f1 (8 * r + c) = nI (F r c) ∧ b1 (8 * r + c) = nI (B r c)) ∧ (∀ j, j < 64 → ¬ (j / 8 < R ∧ j % 8 < C) → b1 j = 0)
theorem Gr.gp {C R Z : Nat} {F B V : Nat → Nat → Nat} {f1 v1 b1 f14 v14 b14 : Nat → Int32} (h : Gr C R Z F B V f1 v1 b1 f14 v14 b14) : Gp C R F B f1 b1 := ⟨fun r c hr hc => by
  obtain ⟨⟨hF, hB, hV⟩, ⟨e1, e2⟩, ⟨e3, e4⟩, -⟩ := h.1 r c hr hc
  exact ⟨hF, hB, e1, e3⟩, h.2⟩
/-- what a neighbour gives: PailRow's side -/
theorem gives_in {C R d r c : Nat} {wnd : Int32} {F B : Nat → Nat → Nat} {f1 b1 : Nat → Int32} (h : Gp C R F B f1 b1) (hC : C ≤ 8) (hR : R ≤ 8) (hd : d < 4) (hr : r < R) (hc : c < C) : f12_gives (nI c) (nI r) (nI d) (nI C) (nI R) wnd f1 b1 = some (nI (if B r c = 0 then 0 else gW wnd d (F r c))) := by
  obtain ⟨hF, hB, e1, e2⟩ := h.1 r c hr hc
  unfold f12_gives f12_gives_j89
  rw [isCell_in hC hR hr hc, bind_is, if_neg (by decide)]
  by_cases hb : B r c = 0
  · rw [if_pos hb]
    have e3 : b1 (8 * r + c) = nI 0 := by rw [e2, hb]
    simp (disch := first | assumption | omega | exact inb_nI (by omega) (by omega) | decide) only [lt_is, bind_is, ok_some, gd_t, nI_clamp, nI_add, pk_mul, pk_sub, nI_leI, nI_ltI, nI_eq, if_true, if_false, z_0, z_1, z_2, z_3, z_4, z_5, z_6, z_7, z_8, z_9, z_10, z_11, z_12, z_16, z_20, z_21, z_30, z_59, z_60, z_64, z_100, z_130, z_177, z_192, z_200, z_999, z_3600, e3]
  · have hb1 : ¬ nI (B r c) = 0 := nI_ne0 (by omega) (by omega)
    have hd4 : nI d + (2 : Int32) - (nI d + 2) / 4 * 4 = nI ((d + 2) % 4) := by rw [show (2 : Int32) = nI 2 from rfl, nI_add, show (4 : Int32) = nI 4 from rfl, pk_rem (by omega) (by decide) (by decide)]
    rw [if_neg hb, show (8 : Int32) = nI 8 from rfl]
    simp only [lt_is, pk_mul, nI_add]
    rw [gd_t (inb_nI (by omega) (by decide)), gd_t (inb_nI (by omega) (by decide)), gd_t (show ¬ (4 : Int32) = 0 by decide)]
    simp (disch := omega) only [nI_clamp]
    rw [e2, if_neg hb1, e1, hd4, show (2 : Int32) * nI (F r c) = nI (2 * F r c) from pk_mul 2 _]
    unfold gW
    by_cases w1 : wnd = nI d
    · rw [if_pos w1, if_pos w1]
    · rw [if_neg w1, if_neg w1]
      by_cases w2 : wnd = -1
      · rw [if_pos w2, if_pos w2]
      · rw [if_neg w2, if_neg w2]
        by_cases w3 : wnd = nI ((d + 2) % 4)
        · rw [if_pos w3, if_pos w3]
          rfl
        · rw [if_neg w3, if_neg w3]
theorem gives_out {C R d : Nat} {p1 p2 : Int32} {wnd : Int32} {f1 b1 : Nat → Int32} (hC : C ≤ 8) (hR : R ≤ 8) (h : ∀ r c, r < R → c < C → p1 = nI c → p2 = nI r → False) : f12_gives p1 p2 (nI d) (nI C) (nI R) wnd f1 b1 = some (nI 0) := by
  unfold f12_gives
  rcases isCell_or p1 p2 (C := C) (R := R) (by omega) (by omega) with ⟨-, r, c, hr, hc, e1, e2⟩ | ⟨e, -⟩
  · exact (h r c hr hc e1 e2).elim
  · rw [e, bind_is, if_pos rfl]
    rfl
theorem cell_of {C R k : Nat} (h : k < C * R) : ∃ r c, r < R ∧ c < C ∧ k = C * r + c := by
  have hC : 0 < C := Nat.pos_of_ne_zero fun e => by
    subst e
    rw [Nat.zero_mul] at h
    exact absurd h (Nat.not_lt_zero _)
  exact ⟨k / C, k % C, Nat.div_lt_of_lt_mul h, Nat.mod_lt _ hC, (Nat.div_add_mod k C).symm⟩
/-- how hot it gets: PailRow's side -/
theorem warm_ok {C R : Nat} {wnd : Int32} {F B : Nat → Nat → Nat} {f1 b1 : Nat → Int32} (h : Gp C R F B f1 b1) (hC : C ≤ 8) (hR : R ≤ 8) (ht : Nat → Int32) : Ok (f12_warm (nI C) (nI R) wnd f1 ht b1) (fun x => ∀ r c, r < R → c < C → x (8 * r + c) = nI (Hv C R wnd F B r c)) := by
  unfold f12_warm
  refine ok_b (Q := fun x => ∀ r c, r < R → c < C → x (8 * r + c) = nI (Hv C R wnd F B r c)) ?_ (fun x hx => ok_i hx)
  refine for_ok (fun i (x : Nat → Int32) => (nI i, x)) (fun i x => ∀ r c, r < R → c < C → r < i → x (8 * r + c) = nI (Hv C R wnd F B r c)) R (by omega) (fun r c _ _ h => absurd h (Nat.not_lt_zero _)) ?_ ?_
  · intro r x hr hI
    dsimp only at hI ⊢
    unfold f12_warm_s1
    rw [if_neg (nI_ge hr (by omega))]
    refine ok_b (Q := fun x => ∀ r' c, r' < R → c < C → r' < r + 1 → x (8 * r' + c) = nI (Hv C R wnd F B r' c)) ?_ ?_
    · refine for_ok (fun i (x : Nat → Int32) => (nI i, x)) (fun i x => (∀ r' c, r' < R → c < C → r' < r → x (8 * r' + c) = nI (Hv C R wnd F B r' c)) ∧ ∀ c, c < C → c < i → x (8 * r + c) = nI (Hv C R wnd F B r c)) C (by omega) ⟨hI, fun c _ h => absurd h (Nat.not_lt_zero _)⟩ ?_ ?_
      · rintro c x hc ⟨hI1, hI2⟩
        dsimp only at hI1 hI2 ⊢
        have key : f12_warm_s3 (nI C) (nI R) wnd f1 b1 (nI r) (nI c) x = some (.inl (nI (c + 1), upd x (8 * r + c) (nI (Hv C R wnd F B r c)))) := by
          obtain ⟨hF, hB, e1, e2⟩ := h.1 r c hr hc
          unfold f12_warm_s3 f12_warm_j56 f12_warm_j99 Hv
          rw [if_neg (nI_ge hc (by omega))]
          by_cases hb : B r c = 1
          · rw [if_pos hb]
            have e3 : b1 (8 * r + c) = nI 1 := by rw [e2, hb]
            simp (disch := first | assumption | omega | exact inb_nI (by omega) (by omega) | decide) only [lt_is, bind_is, ok_some, gd_t, nI_clamp, nI_add, pk_mul, pk_sub, nI_leI, nI_ltI, nI_eq, if_true, if_false, z_0, z_1, z_2, z_3, z_4, z_5, z_6, z_7, z_8, z_9, z_10, z_11, z_12, z_16, z_20, z_21, z_30, z_59, z_60, z_64, z_100, z_130, z_177, z_192, z_200, z_999, z_3600, e3]
            rfl
          · have hb0 : B r c = 0 := by omega
            have e3 : b1 (8 * r + c) = nI 0 := by rw [e2, hb0]
            rw [if_neg hb]
            by_cases hf : F r c = 0
            · rw [if_pos hf]
              have e4 : f1 (8 * r + c) = nI 0 := by rw [e1, hf]
              simp (disch := first | assumption | omega | exact inb_nI (by omega) (by omega) | decide) only [lt_is, bind_is, ok_some, gd_t, nI_clamp, nI_add, pk_mul, pk_sub, nI_leI, nI_ltI, nI_eq, if_true, if_false, z_0, z_1, z_2, z_3, z_4, z_5, z_6, z_7, z_8, z_9, z_10, z_11, z_12, z_16, z_20, z_21, z_30, z_59, z_60, z_64, z_100, z_130, z_177, z_192, z_200, z_999, z_3600, e3, e4]
            · rw [if_neg hf]
              have hf1 : ¬ nI (F r c) = nI 0 := fun q => hf ((nI_eq (by omega) (by omega)).mp q)
              have g0 : f12_gives (nI c) (nI (r + 1)) (nI 0) (nI C) (nI R) wnd f1 b1 = some (nI (gV C R wnd F B 0 true (r + 1) c)) := by
                unfold gV
                by_cases q : r + 1 < R
                · rw [if_pos ⟨rfl, q, hc⟩]
                  exact gives_in h hC hR (by decide) q hc
                · rw [if_neg (fun w => q w.2.1)]
                  refine gives_out hC hR (fun r2 c2 h1 h2 h3 h4 => ?_)
                  have := (nI_eq (by omega) (by omega)).mp h4
                  omega
              have g1 : f12_gives (nI c - nI 1) (nI r) (nI 1) (nI C) (nI R) wnd f1 b1 = some (nI (gV C R wnd F B 1 (decide (0 < c)) r (c - 1))) := by
                unfold gV
                by_cases q : 0 < c
                · rw [if_pos ⟨decide_eq_true q, hr, by omega⟩, pk_sub (by omega)]
                  exact gives_in h hC hR (by decide) hr (by omega)
                · rw [if_neg (fun w => q (of_decide_eq_true w.1))]
                  refine gives_out hC hR (fun r2 c2 h1 h2 h3 h4 => ?_)
                  have hc0 : c = 0 := by omega
                  subst hc0
                  exact nI_pos (n := c2) (by omega) (h3 ▸ by decide)
              have g2 : f12_gives (nI c) (nI r - nI 1) (nI 2) (nI C) (nI R) wnd f1 b1 = some (nI (gV C R wnd F B 2 (decide (0 < r)) (r - 1) c)) := by
                unfold gV
                by_cases q : 0 < r
                · rw [if_pos ⟨decide_eq_true q, by omega, hc⟩, pk_sub (by omega)]
                  exact gives_in h hC hR (by decide) (by omega) hc
                · rw [if_neg (fun w => q (of_decide_eq_true w.1))]
                  refine gives_out hC hR (fun r2 c2 h1 h2 h3 h4 => ?_)
                  have hr0 : r = 0 := by omega
                  subst hr0
                  exact nI_pos (n := r2) (by omega) (h4 ▸ by decide)
              have g3 : f12_gives (nI (c + 1)) (nI r) (nI 3) (nI C) (nI R) wnd f1 b1 = some (nI (gV C R wnd F B 3 true r (c + 1))) := by
                unfold gV
                by_cases q : c + 1 < C
                · rw [if_pos ⟨rfl, hr, q⟩]
                  exact gives_in h hC hR (by decide) hr q
                · rw [if_neg (fun w => q w.2.2)]
                  refine gives_out hC hR (fun r2 c2 h1 h2 h3 h4 => ?_)
                  have := (nI_eq (by omega) (by omega)).mp h3
                  omega
              simp only [lt_is, z_0, z_1, z_2, z_3, z_8, pk_mul, nI_add]
              rw [gd_t (inb_nI (by omega) (by decide))]
              simp (disch := omega) only [nI_clamp]
              rw [e3, if_pos rfl, gd_t (inb_nI (by omega) (by decide)), e1, if_neg hf1, g0, bind_is, g1, bind_is, g2, bind_is, g3, bind_is, nI_add, nI_add, nI_add, gd_t (inb_nI (by omega) (by decide))]
        refine ok_eq key ⟨_, rfl, fun r' c' h1 h2 h3 => ?_, fun c' h1 h2 => ?_⟩
        · rw [pk_un (by omega)]
          exact hI1 r' c' h1 h2 h3
        · by_cases q : c' = c
          · subst q
            exact pk_us
          · rw [pk_un (by omega)]
            exact hI2 c' h1 (by omega)
      · rintro x ⟨hI1, hI2⟩
        unfold f12_warm_s3
        dsimp only
        rw [if_pos (nI_le (Nat.le_refl _) (by omega))]
        refine ok_i ⟨_, rfl, fun r' c h1 h2 h3 => ?_⟩
        by_cases q : r' = r
        · subst q
          exact hI2 c h2 h2
        · exact hI1 r' c h1 h2 (by omega)
    · intro x hx
      unfold f12_warm_e3_0
      refine ok_lt (ok_i ⟨x, ?_, hx⟩)
      rw [nI_1]
  · intro x hI
    unfold f12_warm_s1
    dsimp only
    rw [if_pos (nI_le (Nat.le_refl _) (by omega))]
    exact ok_i ⟨_, rfl, fun r c h1 h2 => hI r c h1 h2 h1⟩
/-! the model's side: neighbours -/
theorem nb_j51 {C R : Nat} {w : Nat → Int32} (w9 : w 9 = nI C) (w10 : w 10 = nI R) (x y v s : Int32) (e : v + s = y) : f14_neighbour_j51 w x v s = if x < 0 then some (-1) else if nI C ≤ x then some (-1) else if y < 0 then some (-1) else if y < nI R then some (nI C * y + x) else some (-1) := by
  subst e
  unfold f14_neighbour_j51 f14_neighbour_j83
  simp only [lt_is, columns_is, w9, bind_is]
  rw [gd_t (show inb (10 : Int32) 800 by decide), show (10 : Int32).toNatClampNeg = 10 from rfl, w10]
theorem nb_at {C R r c : Nat} {w : Nat → Int32} (w9 : w 9 = nI C) (w10 : w 10 = nI R) (hC : C ≤ 8) (hR : R ≤ 8) (hr : r < R) (hc : c < C) (v s : Int32) (e : v + s = nI r) : f14_neighbour_j51 w (nI c) v s = some (nI (C * r + c)) := by
  have := (cell_lt hC hR hr hc).2
  rw [nb_j51 w9 w10 _ _ _ _ e, if_neg (nI_pos (by omega)), if_neg (nI_ge hc (by omega)), if_neg (nI_pos (by omega)), if_pos (nI_lt hr (by omega)), pk_mul, nI_add]
theorem nb_no {C R : Nat} {w : Nat → Int32} (w9 : w 9 = nI C) (w10 : w 10 = nI R) (x y v s : Int32) (e : v + s = y) (h : x < 0 ∨ nI C ≤ x ∨ y < 0 ∨ ¬ y < nI R) : f14_neighbour_j51 w x v s = some (-1) := by
  rw [nb_j51 w9 w10 _ _ _ _ e]
  by_cases h1 : x < 0
  · rw [if_pos h1]
  · rw [if_neg h1]
    by_cases h2 : nI C ≤ x
    · rw [if_pos h2]
    · rw [if_neg h2]
      by_cases h3 : y < 0
      · rw [if_pos h3]
      · rw [if_neg h3]
        by_cases h4 : y < nI R
        · exact (h.elim h1 fun h => h.elim h2 fun h => h.elim h3 fun h => h h4).elim
        · rw [if_neg h4]
theorem nb_go {C R r c : Nat} {w : Nat → Int32} (w9 : w 9 = nI C) (hC : C ≤ 8) (hR : R ≤ 8) (hr : r < R) (hc : c < C) : nI (C * r + c) - nI (C * r + c) / nI C * nI C = nI c ∧ nI (C * r + c) / nI C = nI r := by
  have := (cell_lt hC hR hr hc).2
  rw [pk_rem (by omega) (by omega) (by omega), pk_div (by omega) (by omega) (by omega), Nat.mul_add_mod, Nat.mod_eq_of_lt hc, Nat.mul_add_div (by omega), Nat.div_eq_of_lt hc, Nat.add_zero]
  exact ⟨rfl, rfl⟩
/-- the neighbour in a direction, as the model has it -/
def nbr (C R : Nat) (d r c : Nat) : Option (Nat × Nat) := if d = 0 then (if 0 < r then some (r - 1, c) else none) else if d = 1 then (if c + 1 < C then some (r, c + 1) else none) else if d = 2 then (if r + 1 < R then some (r + 1, c) else none) else (if 0 < c then some (r, c - 1) else none)
theorem nbr_in {C R d r c r' c' : Nat} (hr : r < R) (hc : c < C) (h : nbr C R d r c = some (r', c')) : r' < R ∧ c' < C := by
  unfold nbr at h
  split at h
  · split at h
    · cases h; exact ⟨by omega, hc⟩
    · cases h
  · split at h
    · split at h
      · cases h; exact ⟨hr, by omega⟩
      · cases h
    · split at h
      · split at h
        · cases h; exact ⟨by omega, hc⟩
        · cases h
      · split at h
        · cases h; exact ⟨hr, by omega⟩
        · cases h
theorem nb_is {C R r c d : Nat} {w : Nat → Int32} (w9 : w 9 = nI C) (w10 : w 10 = nI R) (hC : C ≤ 8) (hR : R ≤ 8) (hr : r < R) (hc : c < C) (hd : d < 4) : f14_neighbour (nI (C * r + c)) (nI d) w = some (match nbr C R d r c with | some q => nI (C * q.1 + q.2) | none => -1) := by
  obtain ⟨g1, g2⟩ := nb_go w9 hC hR hr hc
  have hC0 : ¬ nI C = 0 := nI_ne0 (by omega) (by omega)
  have hm : nI r + (-1 : Int32) = nI r - nI 1 := (Int32.sub_eq_add_neg ..).symm
  have hm2 : nI c + (-1 : Int32) = nI c - nI 1 := (Int32.sub_eq_add_neg ..).symm
  unfold f14_neighbour f14_neighbour_j25
  simp only [lt_is, columns_is, w9, bind_is, gd_t hC0, g1]
  simp only [g2]
  unfold nbr
  have hx0 : nI c + (0 : Int32) = nI c := by rw [z_0, nI_add]; rfl
  have hr0 : nI r + (0 : Int32) = nI r := by rw [z_0, nI_add]; rfl
  match d, hd with
  | 0, _ =>
    rw [if_neg (by decide), if_neg (by decide), if_neg (by decide), if_pos (by decide), if_pos rfl, hx0]
    by_cases q : 0 < r
    · rw [if_pos q]
      exact nb_at w9 w10 hC hR (by omega) hc _ _ (by rw [hm, pk_sub (by omega)])
    · rw [if_neg q]
      have h0 : r = 0 := by omega
      subst h0
      exact nb_no w9 w10 _ _ _ _ rfl (Or.inr (Or.inr (Or.inl (by decide))))
  | 1, _ =>
    rw [if_pos (by decide), if_neg (by decide), if_neg (by decide), if_neg (by decide), if_pos rfl, nI_1]
    by_cases q : c + 1 < C
    · rw [if_pos q]
      exact nb_at w9 w10 hC hR hr q _ _ hr0
    · rw [if_neg q]
      exact nb_no w9 w10 _ _ _ _ rfl (Or.inr (Or.inl (nI_le (by omega) (by omega))))
  | 2, _ =>
    rw [if_neg (by decide), if_neg (by decide), if_pos (by decide), if_neg (by decide), if_neg (by decide), if_pos rfl, hx0]
    by_cases q : r + 1 < R
    · rw [if_pos q]
      exact nb_at w9 w10 hC hR q hc _ _ (nI_1 r)
    · rw [if_neg q]
      exact nb_no w9 w10 _ _ _ _ (nI_1 r) (Or.inr (Or.inr (Or.inr (nI_nlt (by omega) (by omega)))))
  | 3, _ =>
    rw [if_neg (by decide), if_pos (by decide), if_neg (by decide), if_neg (by decide), if_neg (by decide), if_neg (by decide), if_neg (by decide)]
    by_cases q : 0 < c
    · rw [if_pos q]
      have e9 : nI c + (-1 : Int32) = nI (c - 1) := by rw [hm2, pk_sub (by omega)]
      rw [e9]
      exact nb_at w9 w10 hC hR hr (by omega) _ _ hr0
    · rw [if_neg q]
      have h0 : c = 0 := by omega
      subst h0
      exact nb_no w9 w10 _ _ _ _ rfl (Or.inl (by decide))
/-- the cells of the model, from some place on -/
def Gm (C R : Nat) (F B : Nat → Nat → Nat) (base n : Nat) (x2 x3 : Nat → Int32) : Prop := base + 64 ≤ n ∧ n ≤ 4000 ∧ ∀ r c, r < R → c < C → F r c ≤ 9 ∧ (B r c = 0 ∨ B r c = 1 ∧ 1 ≤ F r c) ∧ x2 (base + (C * r + c)) = nI (F r c) ∧ x3 (base + (C * r + c)) = nI (B r c)
theorem Gr.gm {C R Z : Nat} {F B V : Nat → Nat → Nat} {f1 v1 b1 f14 v14 b14 : Nat → Int32} (h : Gr C R Z F B V f1 v1 b1 f14 v14 b14) : Gm C R F B 0 64 f14 b14 := ⟨by decide, by decide, fun r c hr hc => by
  obtain ⟨⟨hF, hB, hV⟩, ⟨e1, e2⟩, ⟨e3, e4⟩, -⟩ := h.1 r c hr hc
  rw [Nat.zero_add]
  exact ⟨hF, hB, e2, e4⟩⟩
def dirg (d : Nat) : Nat := (d + 2) % 4
/-- what comes from the neighbour in a direction -/
def cnt (C R : Nat) (wnd : Int32) (F B : Nat → Nat → Nat) (d r c : Nat) : Nat := match nbr C R d r c with | some q => if B q.1 q.2 = 0 then 0 else gW wnd (dirg d) (F q.1 q.2) | none => 0
theorem heat_step {C R base n : Nat} {wnd : Int32} {F B : Nat → Nat → Nat} {x2 x3 w : Nat → Int32} (h : Gm C R F B base n x2 x3) (w9 : w 9 = nI C) (w10 : w 10 = nI R) (w11 : w 11 = wnd) (hC : C ≤ 8) (hR : R ≤ 8) {r c d S : Nat} (hr : r < R) (hc : c < C) (hd : d < 4) : f14_heatOf_s9 (nI (C * r + c)) (nI base) n n w x2 x3 (nI S) (nI d) = some (.inl (nI (S + cnt C R wnd F B d r c), nI (d + 1))) := by
  obtain ⟨hn, hn2, hG⟩ := h
  unfold f14_heatOf_s9 f14_heatOf_j130
  rw [show (4 : Int32) = nI 4 from rfl, if_neg (nI_ge hd (by decide)), nb_is w9 w10 hC hR hr hc hd, bind_is]
  unfold cnt
  cases hq : nbr C R d r c with
  | none =>
    dsimp only
    rw [if_pos rfl, lt_is, nI_1]
    rfl
  | some q =>
    obtain ⟨r', c'⟩ := q
    obtain ⟨hr', hc'⟩ := nbr_in hr hc hq
    obtain ⟨hF, hB, e1, e2⟩ := hG r' c' hr' hc'
    have hlt := (cell_lt hC hR hr' hc').2
    have hne : ¬ nI (C * r' + c') = -1 := fun e => nI_pos (n := C * r' + c') (by omega) (e ▸ by decide)
    dsimp only
    rw [if_neg hne]
    simp only [lt_is, nI_add]
    rw [gd_t (inb_nI (by omega) (by omega)), nI_clamp (by omega), e2]
    by_cases hb : B r' c' = 0
    · rw [if_pos hb, if_pos (show nI (B r' c') = 0 by rw [hb]; rfl), nI_1]
      rfl
    · have hb1 : ¬ nI (B r' c') = 0 := nI_ne0 (by omega) (by omega)
      rw [if_neg hb, if_neg hb1, gd_t (show inb (11 : Int32) 800 by decide)]
      simp only [show (11 : Int32).toNatClampNeg = 11 from rfl, w11]
      have hj : ∀ (k f : Nat), f14_heatOf_j113 (nI base) n x2 (nI S) (nI d) (nI (C * r' + c')) (nI k) = some (.inl (nI (S + k * F r' c'), nI (d + 1))) := by
        intro k f
        unfold f14_heatOf_j113 f14_heatOf_j130
        simp only [lt_is, nI_add]
        rw [gd_t (inb_nI (by omega) (by omega)), nI_clamp (by omega), e1, pk_mul, nI_add, nI_1]
      have hd4 : nI d + (2 : Int32) - (nI d + 2) / nI 4 * nI 4 = nI (dirg d) := by
        rw [show (2 : Int32) = nI 2 from rfl, nI_add, pk_rem (by omega) (by decide) (by decide)]
        rfl
      have hdd : (dirg d + 2) % 4 = d := by unfold dirg; omega
      unfold gW
      rw [hdd]
      by_cases w1 : wnd = -1
      · rw [if_pos w1]
        have w2 : ¬ wnd = nI (dirg d) := fun e => nI_pos (n := dirg d) (by unfold dirg; omega) (e ▸ w1 ▸ by decide)
        rw [if_neg w2, if_pos w1]
        have := hj 1 0
        rw [Nat.one_mul] at this
        exact this
      · rw [if_neg w1, gd_t (show ¬ nI 4 = 0 by decide), hd4]
        by_cases w2 : wnd = nI (dirg d)
        · rw [if_pos w2, if_pos w2]
          exact hj 2 0
        · rw [if_neg w2, if_neg w2, if_neg w1]
          by_cases w3 : wnd = nI d
          · rw [if_pos w3, if_pos w3]
            have := hj 0 0
            rw [Nat.zero_mul] at this
            exact this
          · rw [if_neg w3, if_neg w3]
            have := hj 1 0
            rw [Nat.one_mul] at this
            exact this
theorem Hv_cnt {C R : Nat} {wnd : Int32} {F B : Nat → Nat → Nat} {r c : Nat} (hr : r < R) (hc : c < C) : gV C R wnd F B 0 true (r + 1) c + gV C R wnd F B 1 (decide (0 < c)) r (c - 1) + gV C R wnd F B 2 (decide (0 < r)) (r - 1) c + gV C R wnd F B 3 true r (c + 1) = 0 + cnt C R wnd F B 0 r c + cnt C R wnd F B 1 r c + cnt C R wnd F B 2 r c + cnt C R wnd F B 3 r c := by
  have a0 : cnt C R wnd F B 0 r c = gV C R wnd F B 2 (decide (0 < r)) (r - 1) c := by
    unfold cnt gV nbr dirg
    by_cases q : 0 < r
    · rw [if_pos rfl, if_pos q, if_pos ⟨decide_eq_true q, by omega, hc⟩]
    · rw [if_pos rfl, if_neg q, if_neg (fun w => q (of_decide_eq_true w.1))]
  have a1 : cnt C R wnd F B 1 r c = gV C R wnd F B 3 true r (c + 1) := by
    unfold cnt gV nbr dirg
    by_cases q : c + 1 < C
    · rw [if_neg (by decide), if_pos rfl, if_pos q, if_pos ⟨rfl, hr, q⟩]
    · rw [if_neg (by decide), if_pos rfl, if_neg q, if_neg (fun w => q w.2.2)]
  have a2 : cnt C R wnd F B 2 r c = gV C R wnd F B 0 true (r + 1) c := by
    unfold cnt gV nbr dirg
    by_cases q : r + 1 < R
    · rw [if_neg (by decide), if_neg (by decide), if_pos rfl, if_pos q, if_pos ⟨rfl, q, hc⟩]
    · rw [if_neg (by decide), if_neg (by decide), if_pos rfl, if_neg q, if_neg (fun w => q w.2.1)]
  have a3 : cnt C R wnd F B 3 r c = gV C R wnd F B 1 (decide (0 < c)) r (c - 1) := by
    unfold cnt gV nbr dirg
    by_cases q : 0 < c
    · rw [if_neg (by decide), if_neg (by decide), if_neg (by decide), if_pos q, if_pos ⟨decide_eq_true q, hr, by omega⟩]
    · rw [if_neg (by decide), if_neg (by decide), if_neg (by decide), if_neg q, if_neg (fun w => q (of_decide_eq_true w.1))]
  rw [a0, a1, a2, a3]
  omega
/-- how hot it gets: the model's side -/
theorem heatOf_is {C R base n : Nat} {wnd : Int32} {F B : Nat → Nat → Nat} {x2 x3 w : Nat → Int32} (h : Gm C R F B base n x2 x3) (w9 : w 9 = nI C) (w10 : w 10 = nI R) (w11 : w 11 = wnd) (hC : C ≤ 8) (hR : R ≤ 8) {r c : Nat} (hr : r < R) (hc : c < C) : f14_heatOf (nI (C * r + c)) (nI base) n n w x2 x3 = some (nI (Hv C R wnd F B r c)) := by
  have hs := fun (d S : Nat) (hd : d < 4) => heat_step h w9 w10 w11 hC hR (S := S) hr hc hd
  obtain ⟨hn, hn2, hG⟩ := h
  obtain ⟨hF, hB, e1, e2⟩ := hG r c hr hc
  have hlt := (cell_lt hC hR hr hc).2
  unfold f14_heatOf Hv
  simp only [lt_is, nI_add]
  rw [gd_t (inb_nI (by omega) (by omega))]
  simp (disch := omega) only [nI_clamp]
  rw [e2]
  by_cases hb : B r c = 1
  · rw [if_pos hb, if_pos (show nI (B r c) = 1 by rw [hb]; rfl)]
    rfl
  · rw [if_neg hb, if_neg (show ¬ nI (B r c) = 1 from fun q => hb ((nI_eq (by omega) (by decide)).mp q)), gd_t (inb_nI (by omega) (by omega)), e1]
    by_cases hf : F r c = 0
    · rw [if_pos hf, if_pos (show nI (F r c) = 0 by rw [hf]; rfl)]
      rfl
    · rw [if_neg hf, if_neg (show ¬ nI (F r c) = 0 from nI_ne0 (by omega) (by omega)), Hv_cnt hr hc]
      obtain ⟨m, hm⟩ := FU_s 5 (by decide)
      have g0 := hs 0 0 (by decide)
      have g1 := hs 1 (0 + cnt C R wnd F B 0 r c) (by decide)
      have g2 := hs 2 (0 + cnt C R wnd F B 0 r c + cnt C R wnd F B 1 r c) (by decide)
      have g3 := hs 3 (0 + cnt C R wnd F B 0 r c + cnt C R wnd F B 1 r c + cnt C R wnd F B 2 r c) (by decide)
      have g4 : ∀ S : Int32, f14_heatOf_s9 (nI (C * r + c)) (nI base) n n w x2 x3 S (nI 4) = some (.inr S) := by
        intro S
        unfold f14_heatOf_s9
        rw [if_pos (by decide)]
      have hw : whl (fun (s9 : Int32 × Int32) => f14_heatOf_s9 (nI (C * r + c)) (nI base) n n w x2 x3 s9.1 s9.2) FU ((0 : Int32), (0 : Int32)) = some (nI (0 + cnt C R wnd F B 0 r c + cnt C R wnd F B 1 r c + cnt C R wnd F B 2 r c + cnt C R wnd F B 3 r c)) :=
        itr_FU (n := 4) (b := (nI (0 + cnt C R wnd F B 0 r c + cnt C R wnd F B 1 r c + cnt C R wnd F B 2 r c + cnt C R wnd F B 3 r c), nI 4)) ⟨_, g0, _, g1, _, g2, _, g3, rfl⟩ (by decide) (g4 _)
      rw [hw, bind_is]
      rfl
theorem cells_is {C R : Nat} {w : Nat → Int32} (w9 : w 9 = nI C) (w10 : w 10 = nI R) : f14_cells w = some (nI (C * R)) := by
  unfold f14_cells
  rw [gd_t (show inb (9 : Int32) 800 by decide), lt_is, gd_t (show inb (10 : Int32) 800 by decide), lt_is, lt_is, show (9 : Int32).toNatClampNeg = 9 from rfl, show (10 : Int32).toNatClampNeg = 10 from rfl, w9, w10, pk_mul]
theorem vz0 : vp_nar .boolean 0 = 0 := by decide
theorem vz1 : vp_nar .boolean 1 = 1 := by decide
theorem heat14_ok {C R : Nat} {wnd : Int32} {F B : Nat → Nat → Nat} {f b w : Nat → Int32} (h : Gm C R F B 0 64 f b) (w9 : w 9 = nI C) (w10 : w 10 = nI R) (w11 : w 11 = wnd) (hC : C ≤ 8) (hR : R ≤ 8) (ht : Nat → Int32) : Ok (whl (fun (s1 : Int32 × (Nat → Int32)) => f14_minute_s1 w f b s1.1 s1.2) FU ((0 : Int32), ht)) (fun x => ∀ r c, r < R → c < C → x (C * r + c) = nI (Hv C R wnd F B r c)) := by
  have hCR : C * R ≤ 8 * 8 := Nat.mul_le_mul hC hR
  refine for_ok (fun i (x : Nat → Int32) => (nI i, x)) (fun i x => ∀ r c, r < R → c < C → C * r + c < i → x (C * r + c) = nI (Hv C R wnd F B r c)) (C * R) (by omega) (fun r c _ _ h => absurd h (Nat.not_lt_zero _)) ?_ ?_
  · intro k x hk hI
    obtain ⟨r, c, hr, hc, rfl⟩ := cell_of hk
    have hlt := (cell_lt hC hR hr hc).2
    dsimp only at hI ⊢
    unfold f14_minute_s1
    have h0 := heatOf_is h w9 w10 w11 hC hR hr hc
    rw [nI_0] at h0
    rw [cells_is w9 w10, bind_is, if_neg (nI_ge hk (by omega)), h0, bind_is, gd_t (inb_nI (by omega) (by decide)), lt_is, lt_is, nI_clamp (by omega), nI_1]
    refine ok_i ⟨_, rfl, fun r' c' h1 h2 h3 => ?_⟩
    by_cases q : C * r' + c' = C * r + c
    · obtain ⟨rfl, rfl⟩ := cell_inj h2 hc q
      exact pk_us
    · rw [pk_un q]
      exact hI r' c' h1 h2 (by omega)
  · intro x hI
    dsimp only
    unfold f14_minute_s1
    rw [cells_is w9 w10, bind_is, if_pos (nI_le (Nat.le_refl _) (by omega))]
    exact ok_i ⟨x, rfl, fun r c h1 h2 => hI r c h1 h2 (cell_lt hC hR h1 h2).1⟩
/-- what burns is eaten up -/
theorem eat_ok {C R Z l : Nat} {F B V : Nat → Nat → Nat} {f1 v1 b1 f14 v14 b14 w : Nat → Int32} (h : Gr C R Z F B V f1 v1 b1 f14 v14 b14) (w9 : w 9 = nI C) (w10 : w 10 = nI R) (hC : C ≤ 8) (hR : R ≤ 8) (hl : l < 2 ^ 29) :
    Ok (whl (fun (s2 : Int32 × Int32 × (Nat → Int32) × (Nat → Int32)) => f12_minute_s2 s2.1 s2.2.1 s2.2.2.1 s2.2.2.2) FU ((0 : Int32), nI l, f1, b1)) (fun x => Ok (whl (fun (s2 : Int32 × Int32 × (Nat → Int32) × (Nat → Int32)) => f14_minute_s2 w s2.1 s2.2.1 s2.2.2.1 s2.2.2.2) FU ((0 : Int32), nI l, f14, b14)) (fun y => (∃ l', l' ≤ l + 64 ∧ x.1 = nI l' ∧ y.1 = nI l') ∧ Gr C R Z (fun r c => F r c - B r c) (fun r c => if B r c = 1 ∧ 2 ≤ F r c then 1 else 0) V x.2.1 v1 x.2.2 y.2.1 v14 y.2.2)) := by
  have hCR : C * R ≤ 8 * 8 := Nat.mul_le_mul hC hR
  refine ok_grid (fun j (x : Int32 × (Nat → Int32) × (Nat → Int32)) => (nI j, x)) (fun j (x : Int32 × (Nat → Int32) × (Nat → Int32)) => (nI j, x))
    (fun j x y => (∃ l', l' ≤ l + j ∧ x.1 = nI l' ∧ y.1 = nI l') ∧ (∀ r c, r < R → c < C → 8 * r + c < j → x.2.1 (8 * r + c) = nI (F r c - B r c) ∧ y.2.1 (C * r + c) = nI (F r c - B r c) ∧ x.2.2 (8 * r + c) = nI (if B r c = 1 ∧ 2 ≤ F r c then 1 else 0) ∧ y.2.2 (C * r + c) = nI (if B r c = 1 ∧ 2 ≤ F r c then 1 else 0)) ∧ (∀ r c, r < R → c < C → j ≤ 8 * r + c → x.2.1 (8 * r + c) = nI (F r c) ∧ y.2.1 (C * r + c) = nI (F r c) ∧ x.2.2 (8 * r + c) = nI (B r c) ∧ y.2.2 (C * r + c) = nI (B r c)) ∧ (∀ j, j < 64 → ¬ (j / 8 < R ∧ j % 8 < C) → x.2.2 j = 0)) hC hR ?_ ?_ ?_ ?_
  · refine ⟨⟨l, by omega, rfl, rfl⟩, fun r c _ _ h => absurd h (Nat.not_lt_zero _), fun r c hr hc _ => ?_, h.2⟩
    obtain ⟨-, ⟨a1, a2⟩, ⟨a3, a4⟩, -⟩ := h.1 r c hr hc
    exact ⟨a1, a2, a3, a4⟩
  · rintro r c ⟨x1, x2, x3⟩ ⟨y1, y2, y3⟩ hr hc ⟨⟨l', hl', e1, e2⟩, hd, hn, ho⟩
    obtain ⟨⟨hF, hB, -⟩, -⟩ := h.1 r c hr hc
    dsimp only at e1 e2 hd hn ho ⊢
    subst e1 e2
    obtain ⟨a1, a2, a3, a4⟩ := hn r c hr hc (Nat.le_refl _)
    have hlt := cell_lt hC hR hr hc
    unfold f12_minute_s2 f14_minute_s2 f12_minute_j112 f12_minute_j113 f14_minute_j144
    rw [cells_is w9 w10, bind_is, show (64 : Int32) = nI 64 from rfl, if_neg (nI_ge (show 8 * r + c < 64 by omega) (by decide)), if_neg (nI_ge hlt.1 (by omega))]
    simp (disch := first | assumption | exact inb_nI (by omega) (by omega) | omega | decide) only [gd_t, lt_is, nI_clamp]
    rw [a3, a4]
    rcases hB with hB | ⟨hB, hF1⟩
    · have e0 : nI (B r c) = 0 := by rw [hB]; rfl
      rw [if_pos e0, if_pos e0, nI_1, nI_1]
      refine ok_i (ok_i ⟨_, _, rfl, rfl, ⟨l', by omega, rfl, rfl⟩, fun r' c' h1 h2 h3 => ?_, fun r' c' h1 h2 h3 => hn r' c' h1 h2 (by omega), ho⟩)
      by_cases q : 8 * r' + c' = 8 * r + c
      · have q1 : r' = r := by omega
        have q2 : c' = c := by omega
        subst q1 q2
        have e3 : (if B r' c' = 1 ∧ 2 ≤ F r' c' then 1 else 0) = B r' c' := by rw [hB]; rfl
        rw [e3]
        dsimp only
        rw [hB, Nat.sub_zero]
        exact ⟨a1, a2, by rw [a3, hB], by rw [a4, hB]⟩
      · exact hd r' c' h1 h2 (by omega)
    · have e0 : ¬ nI (B r c) = 0 := by rw [hB]; decide
      rw [if_neg e0, if_neg e0]
      have eF : nI (F r c) - (1 : Int32) = nI (F r c - 1) := by rw [show (1 : Int32) = nI 1 from rfl, pk_sub hF1]
      simp only [a1, a2, eF, nI_1, pk_us, vz0, vz1]
      have hfin : ∀ (b b' : Nat → Int32), (b = upd x3 (8 * r + c) (nI (if B r c = 1 ∧ 2 ≤ F r c then 1 else 0))) → (b' (C * r + c) = nI (if B r c = 1 ∧ 2 ≤ F r c then 1 else 0) ∧ ∀ j, j ≠ C * r + c → b' j = y3 j) → Ok (some (Sum.inl (nI (8 * r + c + 1), nI (l' + 1), upd x2 (8 * r + c) (nI (F r c - 1)), b) : (Int32 × Int32 × (Nat → Int32) × (Nat → Int32)) ⊕ (Int32 × (Nat → Int32) × (Nat → Int32)))) (fun o => Ok (some (Sum.inl (nI (C * r + c + 1), nI (l' + 1), upd y2 (C * r + c) (nI (F r c - 1)), b') : (Int32 × Int32 × (Nat → Int32) × (Nat → Int32)) ⊕ (Int32 × (Nat → Int32) × (Nat → Int32)))) (fun q => ∃ (z z2 : Int32 × (Nat → Int32) × (Nat → Int32)), o = .inl (nI (8 * r + c + 1), z) ∧ q = .inl (nI (C * r + c + 1), z2) ∧ (∃ l'', l'' ≤ l + (8 * r + c + 1) ∧ z.1 = nI l'' ∧ z2.1 = nI l'') ∧ (∀ r' c', r' < R → c' < C → 8 * r' + c' < 8 * r + c + 1 → z.2.1 (8 * r' + c') = nI (F r' c' - B r' c') ∧ z2.2.1 (C * r' + c') = nI (F r' c' - B r' c') ∧ z.2.2 (8 * r' + c') = nI (if B r' c' = 1 ∧ 2 ≤ F r' c' then 1 else 0) ∧ z2.2.2 (C * r' + c') = nI (if B r' c' = 1 ∧ 2 ≤ F r' c' then 1 else 0)) ∧ (∀ r' c', r' < R → c' < C → 8 * r + c + 1 ≤ 8 * r' + c' → z.2.1 (8 * r' + c') = nI (F r' c') ∧ z2.2.1 (C * r' + c') = nI (F r' c') ∧ z.2.2 (8 * r' + c') = nI (B r' c') ∧ z2.2.2 (C * r' + c') = nI (B r' c')) ∧ (∀ j, j < 64 → ¬ (j / 8 < R ∧ j % 8 < C) → z.2.2 j = 0))) := by
        intro b b' hb ⟨hb1, hb2⟩
        subst hb
        refine ok_i (ok_i ⟨_, _, rfl, rfl, ⟨l' + 1, by omega, rfl, rfl⟩, fun r' c' h1 h2 h3 => ?_, fun r' c' h1 h2 h3 => ?_, fun j hj hg => ?_⟩)
        · dsimp only
          by_cases q : 8 * r' + c' = 8 * r + c
          · have q1 : r' = r := by omega
            have q2 : c' = c := by omega
            subst q1 q2
            rw [pk_us, pk_us, pk_us, hb1, hB]
            exact ⟨rfl, rfl, rfl, rfl⟩
          · have q2 : C * r' + c' ≠ C * r + c := fun e => q (by obtain ⟨rfl, rfl⟩ := cell_inj h2 hc e; rfl)
            rw [pk_un q, pk_un q, pk_un q2, hb2 _ q2]
            exact hd r' c' h1 h2 (by omega)
        · dsimp only
          have q : 8 * r' + c' ≠ 8 * r + c := by omega
          have q2 : C * r' + c' ≠ C * r + c := fun e => q (by obtain ⟨rfl, rfl⟩ := cell_inj h2 hc e; rfl)
          rw [pk_un q, pk_un q, pk_un q2, hb2 _ q2]
          exact hn r' c' h1 h2 (by omega)
        · dsimp only
          have q : j ≠ 8 * r + c := fun e => hg (by subst e; omega)
          rw [pk_un q]
          exact ho j hj hg
      by_cases h2 : 2 ≤ F r c
      · have n1 : ¬ nI (F r c - 1) ≤ 0 := nI_nle (by omega) (by omega)
        have n2 : ¬ nI (F r c - 1) = 0 := nI_ne0 (by omega) (by omega)
        rw [if_neg n1, if_neg n2]
        refine hfin _ _ ?_ ⟨?_, fun j _ => rfl⟩
        · rw [if_pos ⟨hB, h2⟩]
          rfl
        · rw [if_pos ⟨hB, h2⟩, a4, hB]
      · have n1 : nI (F r c - 1) = 0 := by rw [show F r c - 1 = 0 by omega]; rfl
        rw [if_pos (show nI (F r c - 1) ≤ 0 by rw [n1]; decide), if_pos n1]
        refine hfin _ _ ?_ ⟨?_, fun j hj => pk_un hj⟩
        · rw [if_neg (fun q => h2 q.2)]
          rfl
        · rw [if_neg (fun q => h2 q.2), pk_us]
          rfl
  · rintro j ⟨x1, x2, x3⟩ ⟨y1, y2, y3⟩ hj hg ⟨⟨l', hl', e1, e2⟩, hd, hn, ho⟩
    dsimp only at e1 e2 hd hn ho ⊢
    unfold f12_minute_s2 f12_minute_j113
    rw [show (64 : Int32) = nI 64 from rfl, if_neg (nI_ge hj (by decide))]
    simp (disch := first | assumption | exact inb_nI (by omega) (by omega) | omega | decide) only [gd_t, lt_is, nI_clamp]
    rw [ho j hj hg, if_pos rfl, nI_1]
    refine ok_i ⟨_, rfl, ⟨l', by omega, e1, e2⟩, fun r c h1 h2 h3 => ?_, fun r c h1 h2 h3 => hn r c h1 h2 (by omega), ho⟩
    by_cases q : 8 * r + c = j
    · exact (hg (by omega)).elim
    · exact hd r c h1 h2 (by omega)
  · rintro ⟨x1, x2, x3⟩ ⟨y1, y2, y3⟩ ⟨⟨l', hl', e1, e2⟩, hd, -, ho⟩
    dsimp only at e1 e2 hd ho ⊢
    unfold f12_minute_s2 f14_minute_s2
    rw [cells_is w9 w10, bind_is, show (64 : Int32) = nI 64 from rfl, if_pos (nI_le (Nat.le_refl _) (by decide)), if_pos (nI_le (Nat.le_refl _) (by omega))]
    refine ok_i (ok_i ⟨_, _, rfl, rfl, ⟨l', by omega, e1, e2⟩, fun r c hr hc => ?_, ho⟩)
    obtain ⟨⟨hF, hB, hV⟩, -, -, hv⟩ := h.1 r c hr hc
    obtain ⟨a1, a2, a3, a4⟩ := hd r c hr hc (by omega)
    refine ⟨⟨Nat.le_trans (Nat.sub_le _ _) hF, ?_, hV⟩, ⟨a1, a2⟩, ⟨a3, a4⟩, hv⟩
    dsimp only
    by_cases q : B r c = 1 ∧ 2 ≤ F r c
    · rw [if_pos q]
      exact Or.inr ⟨rfl, by omega⟩
    · rw [if_neg q]
      exact Or.inl rfl
/-- what is hot begins to burn -/
theorem ignite_ok {C R Z : Nat} {wnd : Int32} {F0 B0 F B V : Nat → Nat → Nat} {f1 v1 b1 f14 v14 b14 w h1 h14 : Nat → Int32} (h : Gr C R Z F B V f1 v1 b1 f14 v14 b14) (w9 : w 9 = nI C) (w10 : w 10 = nI R) (hC : C ≤ 8) (hR : R ≤ 8) (hZ : Z < 2 ^ 29) (hh1 : ∀ r c, r < R → c < C → h1 (8 * r + c) = nI (Hv C R wnd F0 B0 r c)) (hh14 : ∀ r c, r < R → c < C → h14 (C * r + c) = nI (Hv C R wnd F0 B0 r c)) (hH : ∀ r c, r < R → c < C → Hv C R wnd F0 B0 r c ≤ 100 ∧ (0 < Hv C R wnd F0 B0 r c → 1 ≤ F r c)) (x2 : Int32 × (Nat → Int32) × (Nat → Int32)) (y2 : Int32 × (Nat → Int32) × (Nat → Int32)) :
    Ok (whl (fun (s3 : Int32 × (Nat → Int32)) => f12_minute_s3 (nI C) (nI R) v1 h1 x2 s3.1 s3.2) FU ((0 : Int32), b1)) (fun x => Ok (whl (fun (s3 : Int32 × (Nat → Int32)) => f14_minute_s3 w v14 h14 y2 s3.1 s3.2) FU ((0 : Int32), b14)) (fun y => ∃ b b', x = (x2.1, x2.2.1, v1, h1, b) ∧ y = (y2.1, y2.2.1, b', v14, h14) ∧ Gr C R Z F (fun r c => if 5 + V r c / 2 ≤ Hv C R wnd F0 B0 r c then 1 else B r c) V f1 v1 b f14 v14 b')) := by
  have hCR : C * R ≤ 8 * 8 := Nat.mul_le_mul hC hR
  refine ok_nest (si := fun r (s5 : Int32 × (Nat → Int32)) => f12_minute_s5 (nI C) v1 h1 (nI r) s5.1 s5.2) (e := fun r x => f12_minute_e5_0 (nI r) x) (fun r (x : Nat → Int32) => (nI r, x)) (fun c (x : Nat → Int32) => (nI c, x)) (fun x => x) (fun k (x : Nat → Int32) => (nI k, x))
    (fun r c x y => (∀ r' c', r' < R → c' < C → 8 * r' + c' < 8 * r + c → x (8 * r' + c') = nI (if 5 + V r' c' / 2 ≤ Hv C R wnd F0 B0 r' c' then 1 else B r' c') ∧ y (C * r' + c') = nI (if 5 + V r' c' / 2 ≤ Hv C R wnd F0 B0 r' c' then 1 else B r' c')) ∧ (∀ r' c', r' < R → c' < C → 8 * r + c ≤ 8 * r' + c' → x (8 * r' + c') = nI (B r' c') ∧ y (C * r' + c') = nI (B r' c')) ∧ (∀ j, j < 64 → ¬ (j / 8 < R ∧ j % 8 < C) → x j = 0)) hC hR ?_ ?_ ?_ ?_ ?_ ?_ ?_
  · refine ⟨fun r c _ _ h => absurd h (Nat.not_lt_zero _), fun r c hr hc _ => ?_, h.2⟩
    obtain ⟨-, -, ⟨a3, a4⟩, -⟩ := h.1 r c hr hc
    exact ⟨a3, a4⟩
  · intro r x hr
    dsimp only
    unfold f12_minute_s3
    rw [if_neg (nI_ge hr (by omega))]
    rfl
  · intro r x hr
    dsimp only
    unfold f12_minute_s5
    rw [if_pos (nI_le (Nat.le_refl _) (by omega))]
  · intro r x hr
    try dsimp only
    unfold f12_minute_e5_0
    rw [lt_is, nI_1]
  · rintro r c x y hr hc ⟨hd, hn, ho⟩
    obtain ⟨⟨hF, hB, hV⟩, -, -, a5, a6⟩ := h.1 r c hr hc
    obtain ⟨a3, a4⟩ := hn r c hr hc (Nat.le_refl _)
    have hlt := cell_lt hC hR hr hc
    have hHv := hH r c hr hc
    try dsimp only
    unfold f12_minute_s5 f14_minute_s3 f12_minute_j191 f14_minute_j186
    rw [cells_is w9 w10, bind_is, if_neg (nI_ge hc (by omega)), if_neg (nI_ge hlt.1 (by omega))]
    rw [show (8 : Int32) = nI 8 from rfl, show (5 : Int32) = nI 5 from rfl, show (2 : Int32) = nI 2 from rfl]
    simp only [lt_is, pk_mul, nI_add, vz1]
    have hv2 : nI (V r c) / nI 2 = nI (V r c / 2) := pk_div (by omega) (by decide) (by decide)
    simp (disch := first | assumption | exact inb_nI (by omega) (by omega) | omega | decide) only [gd_t, lt_is, nI_clamp]
    rw [hh1 r c hr hc, hh14 r c hr hc, a5, a6, hv2, nI_add]
    by_cases q : 5 + V r c / 2 ≤ Hv C R wnd F0 B0 r c
    · have n1 : ¬ nI (Hv C R wnd F0 B0 r c) < nI (5 + V r c / 2) := nI_nlt q (by omega)
      rw [if_neg n1, if_neg n1, nI_1, nI_1]
      refine ok_i (ok_i ⟨_, _, rfl, rfl, fun r' c' h1 h2 h3 => ?_, fun r' c' h1 h2 h3 => ?_, fun j hj hg => ?_⟩)
      · by_cases q2 : 8 * r' + c' = 8 * r + c
        · have q3 : r' = r := by omega
          have q4 : c' = c := by omega
          subst q3 q4
          rw [pk_us, pk_us, if_pos q]
          exact ⟨rfl, rfl⟩
        · have q3 : C * r' + c' ≠ C * r + c := fun e => q2 (by obtain ⟨rfl, rfl⟩ := cell_inj h2 hc e; rfl)
          rw [pk_un q2, pk_un q3]
          exact hd r' c' h1 h2 (by omega)
      · have q2 : 8 * r' + c' ≠ 8 * r + c := by omega
        have q3 : C * r' + c' ≠ C * r + c := fun e => q2 (by obtain ⟨rfl, rfl⟩ := cell_inj h2 hc e; rfl)
        rw [pk_un q2, pk_un q3]
        exact hn r' c' h1 h2 (by omega)
      · have q2 : j ≠ 8 * r + c := fun e => hg (by subst e; omega)
        rw [pk_un q2]
        exact ho j hj hg
    · have n1 : nI (Hv C R wnd F0 B0 r c) < nI (5 + V r c / 2) := nI_lt (by omega) (by omega)
      rw [if_pos n1, if_pos n1, nI_1, nI_1]
      refine ok_i (ok_i ⟨_, _, rfl, rfl, fun r' c' h1 h2 h3 => ?_, fun r' c' h1 h2 h3 => hn r' c' h1 h2 (by omega), ho⟩)
      by_cases q2 : 8 * r' + c' = 8 * r + c
      · have q3 : r' = r := by omega
        have q4 : c' = c := by omega
        subst q3 q4
        rw [if_neg q]
        exact ⟨a3, a4⟩
      · exact hd r' c' h1 h2 (by omega)
  · rintro r x y hr ⟨hd, hn, ho⟩
    exact ⟨fun r' c' h1 h2 h3 => hd r' c' h1 h2 (by omega), fun r' c' h1 h2 h3 => hn r' c' h1 h2 (by omega), ho⟩
  · rintro x y ⟨hd, -, ho⟩
    dsimp only
    unfold f12_minute_s3 f14_minute_s3
    rw [cells_is w9 w10, bind_is, if_pos (nI_le (Nat.le_refl _) (by omega)), if_pos (nI_le (Nat.le_refl _) (by omega))]
    refine ok_i (ok_i ⟨_, _, rfl, rfl, x, y, rfl, rfl, fun r c hr hc => ?_, ho⟩)
    obtain ⟨⟨hF, hB, hV⟩, hf, -, hv⟩ := h.1 r c hr hc
    obtain ⟨a3, a4⟩ := hd r c hr hc (by omega)
    refine ⟨⟨hF, ?_, hV⟩, hf, ⟨a3, a4⟩, hv⟩
    dsimp only
    by_cases q : 5 + V r c / 2 ≤ Hv C R wnd F0 B0 r c
    · rw [if_pos q]
      exact Or.inr ⟨rfl, (hH r c hr hc).2 (by omega)⟩
    · rw [if_neg q]
      exact hB
theorem Hv_le {C R : Nat} {wnd : Int32} {F B : Nat → Nat → Nat} (hF : ∀ r c, r < R → c < C → F r c ≤ 9) {r c : Nat} : Hv C R wnd F B r c ≤ 72 ∧ (0 < Hv C R wnd F B r c → ¬ B r c = 1 ∧ ¬ F r c = 0) := by
  have g : ∀ d ok r c, gV C R wnd F B d ok r c ≤ 18 := by
    intro d ok r c
    unfold gV
    split
    · rename_i q
      split
      · omega
      · exact gW_le (wnd := wnd) (d := d) (hF r c q.2.1 q.2.2)
    · omega
  unfold Hv
  split
  · exact ⟨by omega, fun h => absurd h (Nat.lt_irrefl _)⟩
  · split
    · exact ⟨by omega, fun h => absurd h (Nat.lt_irrefl _)⟩
    · rename_i q1 q2
      have := g 0 true (r + 1) c
      have := g 1 (decide (0 < c)) r (c - 1)
      have := g 2 (decide (0 < r)) (r - 1) c
      have := g 3 true r (c + 1)
      exact ⟨by omega, fun _ => ⟨q1, q2⟩⟩
/-- a minute, behind the water -/
theorem minute_j {C R Z l : Nat} {wnd : Int32} {F B V : Nat → Nat → Nat} {f1 v1 b1 f14 v14 b14 w : Nat → Int32} (h : Gr C R Z F B V f1 v1 b1 f14 v14 b14) (w9 : w 9 = nI C) (w10 : w 10 = nI R) (w11 : w 11 = wnd) (hC : C ≤ 8) (hR : R ≤ 8) (hZ : Z < 2 ^ 29) (hl : l < 2 ^ 29) (ht1 ht14 : Nat → Int32) :
    Ok (f12_minute_j49 (nI C) (nI R) wnd (nI l) f1 ht1 v1 b1) (fun x => Ok (f14_minute_j50 (nI l) w f14 ht14 b14 v14) (fun y => (∃ l', l' ≤ l + 64 ∧ x.1 = nI l' ∧ y.1 = nI l') ∧ ∃ F' B', Gr C R Z F' B' V x.2.1 x.2.2.1 x.2.2.2.2 y.2.1 y.2.2.2.1 y.2.2.1)) := by
  unfold f12_minute_j49 f14_minute_j50
  refine ok_b (warm_ok (wnd := wnd) h.gp hC hR ht1) (fun h1 hh1 => ?_)
  refine ok_sw (ok_b (heat14_ok (wnd := wnd) h.gm w9 w10 w11 hC hR ht14) (fun h14 hh14 => ?_))
  unfold f14_minute_e1_0
  refine ok_sw (ok_b2 (eat_ok h w9 w10 hC hR hl) ?_)
  rintro x y ⟨⟨l', hl', e1, e2⟩, hg⟩
  unfold f12_minute_e2_0 f14_minute_e2_0
  have hF : ∀ r c, r < R → c < C → F r c ≤ 9 := fun r c hr hc => (h.1 r c hr hc).1.1
  refine ok_b2 (ignite_ok (wnd := wnd) (F0 := F) (B0 := B) hg w9 w10 hC hR hZ hh1 hh14 (fun r c hr hc => ?_) x y) ?_
  · have := Hv_le (wnd := wnd) (B := B) hF (r := r) (c := c)
    refine ⟨by omega, fun q => ?_⟩
    obtain ⟨q1, q2⟩ := this.2 q
    have hB := (h.1 r c hr hc).1.2.1
    omega
  · rintro x' y' ⟨b, b', rfl, rfl, hg2⟩
    exact ok_i (ok_i ⟨⟨l', hl', e1, e2⟩, _, _, hg2⟩)
/-- a cell that water is thrown on, on both sides -/
def Cel (C R : Nat) (p1 p14 : Int32) : Prop := (p1 = -1 ∧ p14 = -1) ∨ ∃ r c, r < R ∧ c < C ∧ p1 = nI (8 * r + c) ∧ p14 = nI (C * r + c)
theorem minute_eq {C R Z l t : Nat} {wnd : Int32} {F B V : Nat → Nat → Nat} {f1 v1 b1 f14 v14 b14 w : Nat → Int32} {p1 p14 : Int32} (h : Gr C R Z F B V f1 v1 b1 f14 v14 b14) (w9 : w 9 = nI C) (w10 : w 10 = nI R) (w11 : w 11 = wnd) (hC : C ≤ 8) (hR : R ≤ 8) (hZ : Z + t < 2 ^ 29) (hl : l < 2 ^ 29) (hp : Cel C R p1 p14) (ht1 ht14 : Nat → Int32) :
    Ok (f12_minute p1 (nI t) (nI C) (nI R) wnd (nI l) f1 v1 ht1 b1) (fun x => Ok (f14_minute p14 (nI t) (nI l) w f14 b14 v14 ht14) (fun y => (∃ l', l' ≤ l + 64 ∧ x.1 = nI l' ∧ y.1 = nI l') ∧ ∃ F' B' V', Gr C R (Z + t) F' B' V' x.2.1 x.2.2.1 x.2.2.2.2 y.2.1 y.2.2.2.1 y.2.2.1)) := by
  have up : ∀ {F' B' V' : Nat → Nat → Nat} {f1 v1 b1 f14 v14 b14 : Nat → Int32}, Gr C R (Z + t) F' B' V' f1 v1 b1 f14 v14 b14 → ∀ ht1 ht14, Ok (f12_minute_j49 (nI C) (nI R) wnd (nI l) f1 ht1 v1 b1) (fun x => Ok (f14_minute_j50 (nI l) w f14 ht14 b14 v14) (fun y => (∃ l', l' ≤ l + 64 ∧ x.1 = nI l' ∧ y.1 = nI l') ∧ ∃ F' B' V', Gr C R (Z + t) F' B' V' x.2.1 x.2.2.1 x.2.2.2.2 y.2.1 y.2.2.2.1 y.2.2.1)) := by
    intro F' B' V' f1 v1 b1 f14 v14 b14 hg ht1 ht14
    refine ok_w2 (minute_j hg w9 w10 w11 hC hR hZ hl ht1 ht14) ?_
    rintro x y ⟨h1, F2, B2, h2⟩
    exact ⟨h1, F2, B2, _, h2⟩
  have hle : ∀ {F' B' V' : Nat → Nat → Nat} {f1 v1 b1 f14 v14 b14 : Nat → Int32}, Gr C R Z F' B' V' f1 v1 b1 f14 v14 b14 → Gr C R (Z + t) F' B' V' f1 v1 b1 f14 v14 b14 := by
    intro F' B' V' f1 v1 b1 f14 v14 b14 hg
    refine ⟨fun r c hr hc => ?_, hg.2⟩
    obtain ⟨⟨a, b, d⟩, e⟩ := hg.1 r c hr hc
    exact ⟨⟨a, b, by omega⟩, e⟩
  unfold f12_minute f14_minute
  rcases hp with ⟨rfl, rfl⟩ | ⟨r, c, hr, hc, rfl, rfl⟩
  · rw [if_pos rfl, if_pos rfl]
    exact up (hle h) ht1 ht14
  · obtain ⟨⟨hF, hB, hV⟩, ⟨a1, a2⟩, ⟨a3, a4⟩, a5, a6⟩ := h.1 r c hr hc
    have hlt := cell_lt hC hR hr hc
    have m1 : ¬ nI (8 * r + c) = -1 := fun e => nI_pos (n := 8 * r + c) (by omega) (e ▸ by decide)
    have m14 : ¬ nI (C * r + c) = -1 := fun e => nI_pos (n := C * r + c) (by omega) (e ▸ by decide)
    rw [if_neg m1, if_neg m14]
    rw [show (10 : Int32) = nI 10 from rfl]
    simp only [lt_is]
    rw [gd_t (inb_nI (show 8 * r + c < 64 by omega) (by decide)), gd_t (inb_nI (show C * r + c < 64 by omega) (by decide)), gd_t (inb_nI (show 8 * r + c < 64 by omega) (by decide)), gd_t (inb_nI (show C * r + c < 64 by omega) (by decide)), gd_t (inb_nI (show 8 * r + c < 64 by omega) (by decide)), gd_t (inb_nI (show C * r + c < 64 by omega) (by decide))]
    simp (disch := omega) only [nI_clamp]
    rw [a3, a4, a5, a6, nI_add]
    have hw : Gr C R (Z + t) F B (fun r' c' => if r' = r ∧ c' = c then V r c + t else V r' c') f1 (upd v1 (8 * r + c) (nI (V r c + t))) b1 f14 (upd v14 (C * r + c) (nI (V r c + t))) b14 := by
      refine ⟨fun r' c' h1 h2 => ?_, h.2⟩
      obtain ⟨⟨b1, b2, b3⟩, e1, e2, e3, e4⟩ := h.1 r' c' h1 h2
      dsimp only
      by_cases q : r' = r ∧ c' = c
      · obtain ⟨rfl, rfl⟩ := q
        rw [if_pos ⟨rfl, rfl⟩, pk_us, pk_us]
        exact ⟨⟨b1, b2, by omega⟩, e1, e2, rfl, rfl⟩
      · have q2 : 8 * r' + c' ≠ 8 * r + c := by omega
        have q3 : C * r' + c' ≠ C * r + c := fun e => q (cell_inj h2 hc e)
        rw [if_neg q, pk_un q2, pk_un q3]
        exact ⟨⟨b1, b2, by omega⟩, e1, e2, e3, e4⟩
    rcases hB with hB | ⟨hB, hF1⟩
    · rw [if_pos (show nI (B r c) = 0 by rw [hB]; rfl), if_neg (show ¬ nI (B r c) = 1 by rw [hB]; decide)]
      exact up hw _ _
    · rw [if_neg (show ¬ nI (B r c) = 0 by rw [hB]; decide), if_pos (show nI (B r c) = 1 by rw [hB]; rfl)]
      rw [gd_t (inb_nI (show 8 * r + c < 64 by omega) (by decide)), gd_t (inb_nI (show C * r + c < 64 by omega) (by decide)), gd_t (inb_nI (show 8 * r + c < 64 by omega) (by decide)), gd_t (inb_nI (show C * r + c < 64 by omega) (by decide)), pk_us, pk_us, a1, a2, pk_mul]
      by_cases q : V r c + t < 10 * F r c
      · have n1 := nI_lt q (by omega)
        rw [if_pos n1, if_pos n1]
        exact up hw _ _
      · have n1 := nI_nlt (show 10 * F r c ≤ V r c + t by omega) (by omega)
        rw [if_neg n1, if_neg n1, gd_t (inb_nI (show 8 * r + c < 64 by omega) (by decide)), gd_t (inb_nI (show C * r + c < 64 by omega) (by decide)), vz0]
        refine up (F' := F) (B' := fun r' c' => if r' = r ∧ c' = c then 0 else B r' c') (V' := fun r' c' => if r' = r ∧ c' = c then V r c + t else V r' c') ⟨fun r' c' h1 h2 => ?_, fun j hj hg => ?_⟩ _ _
        · obtain ⟨⟨b1, b2, b3⟩, e1, ⟨e2, e2'⟩, e3, e4⟩ := hw.1 r' c' h1 h2
          dsimp only
          by_cases q : r' = r ∧ c' = c
          · obtain ⟨rfl, rfl⟩ := q
            rw [if_pos ⟨rfl, rfl⟩, pk_us, pk_us]
            exact ⟨⟨b1, Or.inl rfl, b3⟩, e1, ⟨rfl, rfl⟩, e3, e4⟩
          · have q2 : 8 * r' + c' ≠ 8 * r + c := by omega
            have q3 : C * r' + c' ≠ C * r + c := fun e => q (cell_inj h2 hc e)
            rw [if_neg q, pk_un q2, pk_un q3]
            exact ⟨⟨b1, b2, b3⟩, e1, ⟨e2, e2'⟩, e3, e4⟩
        · have q2 : j ≠ 8 * r + c := fun e => hg (by subst e; omega)
          rw [pk_un q2]
          exact h.2 j hj hg
