/-! makers: the walks (printed by tools) 2 -/
set_option maxRecDepth 100000
noncomputable def w8_read_e22_0 (n : Nat) (x22_0 : gK × gI × gJ × gX × gI × gJ × gX × Nat × Nat × Nat) : Option ((Nat ⊕ Nat) × gK × gI × gJ × gX × gI × gJ × gX × Nat) :=
  gdp (x22_0.2.2.2.2.2.2.2.2.1 ≤ 42 ∧ x22_0.2.2.2.2.2.2.2.2.2 ≤ 362) <|
  some ((.inr n), x22_0.1, x22_0.2.1, x22_0.2.2.1, x22_0.2.2.2.1, x22_0.2.2.2.2.1, x22_0.2.2.2.2.2.1, x22_0.2.2.2.2.2.2.1, x22_0.2.2.2.2.2.2.2.1)

noncomputable def w8_read_e22_1 (x22_1 : (Nat ⊕ Nat) × gK × gI × gJ × gX × gI × gJ × gX × Nat) : Option ((Nat ⊕ Nat) × gK × gI × gJ × gX × gI × gJ × gX × Nat) :=
  some x22_1

noncomputable def w8_read_j50 (zz : Nat) (adS : Nat → Nat) (o : Nat) (n : Nat) (w22_K : gK) (w22_J : gJ) (w22_X : gX) (w22_A : gI) (w22_B : gJ) (w22_Q : gX) (w22_n : Nat) (w22_u : Nat) (w22_v : Nat) (Im37 : gI) (j50_s0 : Int32) : Option ((gK × gI × gJ × gX × gI × gJ × gX × Nat × Nat × Nat) ⊕ ((gK × gI × gJ × gX × gI × gJ × gX × Nat × Nat × Nat) ⊕ ((Nat ⊕ Nat) × gK × gI × gJ × gX × gI × gJ × gX × Nat))) :=
  (w22_X 607 o).bind fun a45 =>
  gdp (Sh w22_K w22_X a45 0 rows0) <|
  gdp (w22_K (a45 + 2) = some (.inl 1)) <|
  gdp (w22_X 4 a45 = some (a45 + 2)) <|
  (f6_mustP j50_s0 (4 : Int32) (Im37 106 (a45 + 2)) (Im37 107 (a45 + 2)) (Im37 602 o)).bind fun r44 =>
  tr r44.1 (
    lt ((ov Im37 [(106, (a45 + 2), r44.2.1), (107, (a45 + 2), r44.2.2)])) fun Im49 =>
    gdp (w22_K (a45 + 2) = some (.inl 1)) <|
    gdp (w22_u ≤ 42 ∧ w22_v ≤ 362) <|
    some (.inr (.inr ((.inl (a45 + 2)), w22_K, Im49, w22_J, w22_X, w22_A, w22_B, w22_Q, w22_n)))
    ) fun v50 =>
  lt ((ov Im37 [(106, (a45 + 2), r44.2.1), (107, (a45 + 2), r44.2.2)])) fun Im49 =>
  (w22_X 607 o).bind fun a55 =>
  gdp (Sh w22_K w22_X a55 0 rows0) <|
  (f6_nextP (Im49 2 a55) (Im49 600 o) (Im49 601 o) (Im49 602 o) (Im49 603 o) (Im49 604 o) (Im49 605 o) (w22_J 606 o) (w22_A (a55 + 1))).bind fun r54 =>
  lt ((ov Im49 [(601, o, r54.1), (602, o, r54.2.1), (603, o, r54.2.2.1), (604, o, r54.2.2.2.1), (605, o, r54.2.2.2.2.1)])) fun Im57 =>
  lt ((ov w22_J [(606, o, r54.2.2.2.2.2)])) fun Jm58 =>
  lt (Im57 608 o) fun v59 =>
  (w22_X 607 o).bind fun a61 =>
  gdp (Sh w22_K w22_X a61 0 rows0) <|
  gdp (w22_K (a61 + 2) = some (.inl 1)) <|
  gdp (w22_X 4 a61 = some (a61 + 2)) <|
  (f6_numberP v59 (59 : Int32) (Im57 2 a61) (Im57 106 (a61 + 2)) (Im57 107 (a61 + 2)) (Im57 600 o) (Im57 601 o) (Im57 602 o) (Im57 603 o) (Im57 604 o) (Im57 605 o) (Jm58 606 o) (w22_A (a61 + 1))).bind fun r60 =>
  tr r60.1 (
    lt ((ov Im57 [(106, (a61 + 2), r60.2.1), (107, (a61 + 2), r60.2.2.1), (601, o, r60.2.2.2.1), (602, o, r60.2.2.2.2.1), (603, o, r60.2.2.2.2.2.1), (604, o, r60.2.2.2.2.2.2.1), (605, o, r60.2.2.2.2.2.2.2.1)])) fun Im65 =>
    lt ((ov Jm58 [(606, o, r60.2.2.2.2.2.2.2.2)])) fun Jm66 =>
    gdp (w22_K (a61 + 2) = some (.inl 1)) <|
    gdp (w22_u ≤ 42 ∧ w22_v ≤ 362) <|
    some (.inr (.inr ((.inl (a61 + 2)), w22_K, Im65, Jm66, w22_X, w22_A, w22_B, w22_Q, w22_n)))
    ) fun v67 =>
  lt ((ov Im57 [(106, (a61 + 2), r60.2.1), (107, (a61 + 2), r60.2.2.1), (601, o, r60.2.2.2.1), (602, o, r60.2.2.2.2.1), (603, o, r60.2.2.2.2.2.1), (604, o, r60.2.2.2.2.2.2.1), (605, o, r60.2.2.2.2.2.2.2.1)])) fun Im65 =>
  lt ((ov Jm58 [(606, o, r60.2.2.2.2.2.2.2.2)])) fun Jm66 =>
  lt (i_up Im65 608 o v67) fun Im71 =>
  lt (w22_X 400 n) fun x72 =>
  lt (Im71 401 n) fun v73 =>
  gdp (w22_u + 2 ≤ 42 ∧ w22_v + 17 ≤ 362) <|
  (w8_thing zz adS o w22_K Im71 Jm66 w22_X w22_A w22_B w22_Q w22_n).bind fun r74 =>
  trs r74.1 (fun b77 =>
    gdp (r74.2.1 b77 = some (.inl 1)) <|
    gdp ((w22_u + 2) ≤ 42 ∧ (w22_v + 17) ≤ 362) <|
    some (.inr (.inr ((.inl b77), r74.2.1, r74.2.2.1, r74.2.2.2.1, r74.2.2.2.2.1, r74.2.2.2.2.2.1, r74.2.2.2.2.2.2.1, r74.2.2.2.2.2.2.2.1, r74.2.2.2.2.2.2.2.2)))
    ) fun v76 =>
  (x72).bind fun a80 =>
  gdp (r74.2.1 v76 = some (.inl 13)) <|
  (alen r74.2.1 a80 5).bind fun n82 =>
  gdp (inb v73 n82) <|
  lt (a_up r74.2.2.2.2.2.2.2.1 a80 (va_up (r74.2.2.2.2.2.2.2.1 a80) v73.toNatClampNeg (some v76))) fun Qm84 =>
  gdp (r74.2.1 n = some (.inl 4)) <|
  lt (r74.2.2.1 401 n) fun v86 =>
  lt (v86 + (1 : Int32)) fun v87 =>
  lt (i_up r74.2.2.1 401 n v87) fun Im88 =>
  gdp ((w22_u + 2) ≤ 42 ∧ (w22_v + 17) ≤ 362) <|
  (r74.2.2.2.2.1 607 o).bind fun a91 =>
  gdp (Sh r74.2.1 r74.2.2.2.2.1 o 6 rows6) <|
  gdp (Sh r74.2.1 r74.2.2.2.2.1 a91 0 rows0) <|
  gdp (r74.2.1 (a91 + 2) = some (.inl 1)) <|
  gdp (r74.2.2.2.2.1 4 a91 = some (a91 + 2)) <|
  (f6_signP (59 : Int32) (Im88 2 a91) (Im88 106 (a91 + 2)) (Im88 107 (a91 + 2)) (Im88 600 o) (Im88 601 o) (Im88 602 o) (Im88 603 o) (Im88 604 o) (Im88 605 o) (r74.2.2.2.1 606 o) (r74.2.2.2.2.2.1 (a91 + 1))).bind fun r89 =>
  tr r89.1 (
    lt ((ov Im88 [(106, (a91 + 2), r89.2.1), (107, (a91 + 2), r89.2.2.1), (601, o, r89.2.2.2.1), (602, o, r89.2.2.2.2.1), (603, o, r89.2.2.2.2.2.1), (604, o, r89.2.2.2.2.2.2.1), (605, o, r89.2.2.2.2.2.2.2.1)])) fun Im96 =>
    lt ((ov r74.2.2.2.1 [(606, o, r89.2.2.2.2.2.2.2.2)])) fun Jm97 =>
    gdp (r74.2.1 (a91 + 2) = some (.inl 1)) <|
    gdp ((w22_u + 2) ≤ 42 ∧ (w22_v + 17) ≤ 362) <|
    some (.inr (.inr ((.inl (a91 + 2)), r74.2.1, Im96, Jm97, r74.2.2.2.2.1, r74.2.2.2.2.2.1, r74.2.2.2.2.2.2.1, Qm84, r74.2.2.2.2.2.2.2.2)))
    ) fun v98 =>
  lt ((ov Im88 [(106, (a91 + 2), r89.2.1), (107, (a91 + 2), r89.2.2.1), (601, o, r89.2.2.2.1), (602, o, r89.2.2.2.2.1), (603, o, r89.2.2.2.2.2.1), (604, o, r89.2.2.2.2.2.2.1), (605, o, r89.2.2.2.2.2.2.2.1)])) fun Im96 =>
  lt ((ov r74.2.2.2.1 [(606, o, r89.2.2.2.2.2.2.2.2)])) fun Jm97 =>
  some (.inl (r74.2.1, Im96, Jm97, r74.2.2.2.2.1, r74.2.2.2.2.2.1, r74.2.2.2.2.2.2.1, Qm84, r74.2.2.2.2.2.2.2.2, (w22_u + 2), (w22_v + 17)))

noncomputable def w8_read_s22 (zz : Nat) (adS : Nat → Nat) (o : Nat) (n : Nat) (w22_K : gK) (w22_I : gI) (w22_J : gJ) (w22_X : gX) (w22_A : gI) (w22_B : gJ) (w22_Q : gX) (w22_n : Nat) (w22_u : Nat) (w22_v : Nat) : Option ((gK × gI × gJ × gX × gI × gJ × gX × Nat × Nat × Nat) ⊕ ((gK × gI × gJ × gX × gI × gJ × gX × Nat × Nat × Nat) ⊕ ((Nat ⊕ Nat) × gK × gI × gJ × gX × gI × gJ × gX × Nat))) :=
  gdp (w22_K o = some (.inl 6)) <|
  lt (w22_I 603 o) fun v25 =>
  if v25 = 0 then
    some (.inr (.inl (w22_K, w22_I, w22_J, w22_X, w22_A, w22_B, w22_Q, w22_n, w22_u, w22_v)))
  else
    gdp (w22_u ≤ 42 ∧ w22_v ≤ 362) <|
    (w22_X 607 o).bind fun a29 =>
    gdp (Sh w22_K w22_X o 6 rows6) <|
    gdp (Sh w22_K w22_X a29 0 rows0) <|
    (f6_isP 19 (w22_I 602 o) (w22_I 603 o) (w22_I 605 o) (w22_A (a29 + 1))).bind fun r27 =>
    (w22_X 607 o).bind fun a33 =>
    gdp (Sh w22_K w22_X a33 0 rows0) <|
    gdp (w22_K (a33 + 2) = some (.inl 1)) <|
    gdp (w22_X 4 a33 = some (a33 + 2)) <|
    (f6_mustP r27 (1 : Int32) (w22_I 106 (a33 + 2)) (w22_I 107 (a33 + 2)) (w22_I 602 o)).bind fun r32 =>
    tr r32.1 (
      lt ((ov w22_I [(106, (a33 + 2), r32.2.1), (107, (a33 + 2), r32.2.2)])) fun Im37 =>
      gdp (w22_K (a33 + 2) = some (.inl 1)) <|
      gdp (w22_u ≤ 42 ∧ w22_v ≤ 362) <|
      some (.inr (.inr ((.inl (a33 + 2)), w22_K, Im37, w22_J, w22_X, w22_A, w22_B, w22_Q, w22_n)))
      ) fun v38 =>
    lt ((ov w22_I [(106, (a33 + 2), r32.2.1), (107, (a33 + 2), r32.2.2)])) fun Im37 =>
    gdp (w22_K n = some (.inl 4)) <|
    lt (Im37 401 n) fun v43 =>
    if (20 : Int32) ≤ v43 then
      w8_read_j50 zz adS o n w22_K w22_J w22_X w22_A w22_B w22_Q w22_n w22_u w22_v Im37 (0 : Int32)
    else
      w8_read_j50 zz adS o n w22_K w22_J w22_X w22_A w22_B w22_Q w22_n w22_u w22_v Im37 (1 : Int32)

noncomputable def w8_read (zz : Nat) (adS : Nat → Nat) (o : Nat) (K : gK) (I : gI) (J : gJ) (X : gX) (A : gI) (B : gJ) (Q : gX) (n : Nat) : Option ((Nat ⊕ Nat) × gK × gI × gJ × gX × gI × gJ × gX × Nat) :=
  gdp (∃ a, K a ≠ none) <|
  gdp (freshz zz K n) <|
  gdp (0 + 2 ≤ 42 ∧ 0 + 22 ≤ 362) <|
  lt (bK K n KS_i5) fun Km3 =>
  lt (bm 0 I n 2 LI_i5) fun Im4 =>
  lt (bm 0 J n 2 LJ_i5) fun Jm5 =>
  lt (bm none X n 2 (LX_i5 n)) fun Xm6 =>
  lt (ba z0 A n 2 LA_i5) fun Am7 =>
  lt (ba z1 B n 2 []) fun Bm8 =>
  lt (ba z2 Q n 2 []) fun Qm9 =>
  lt (n + 2) fun n10 =>
  lt (0 + 2) fun u11 =>
  lt (0 + 22) fun v12 =>
  gdp (Km3 o = some (.inl 6)) <|
  lt (i_up Im4 608 o (0 : Int32)) fun Im14 =>
  gdp (u11 ≤ 42 ∧ v12 ≤ 362) <|
  (Xm6 607 o).bind fun a17 =>
  gdp (Sh Km3 Xm6 o 6 rows6) <|
  gdp (Sh Km3 Xm6 a17 0 rows0) <|
  (f6_beginP (Im14 2 a17) (Im14 600 o) (Im14 601 o) (Im14 602 o) (Im14 603 o) (Im14 604 o) (Im14 605 o) (Jm5 606 o) (Am7 (a17 + 1))).bind fun r15 =>
  lt ((ov Im14 [(601, o, r15.1), (602, o, r15.2.1), (603, o, r15.2.2.1), (604, o, r15.2.2.2.1), (605, o, r15.2.2.2.2.1)])) fun Im20 =>
  lt ((ov Jm5 [(606, o, r15.2.2.2.2.2)])) fun Jm21 =>
  (whl (fun (s22 : gK × gI × gJ × gX × gI × gJ × gX × Nat × Nat × Nat) => w8_read_s22 zz adS o n s22.1 s22.2.1 s22.2.2.1 s22.2.2.2.1 s22.2.2.2.2.1 s22.2.2.2.2.2.1 s22.2.2.2.2.2.2.1 s22.2.2.2.2.2.2.2.1 s22.2.2.2.2.2.2.2.2.1 s22.2.2.2.2.2.2.2.2.2) FU (Km3, Im20, Jm21, Xm6, Am7, Bm8, Qm9, n10, u11, v12)).bind fun rl22 =>
  Sum.elim (w8_read_e22_0 n) (w8_read_e22_1) rl22
set_option maxHeartbeats 4000000 in
theorem m8_read_w (l : Launch) (G : gG) (K : gK) (I : gI) (J : gJ) (X : gX) (A : gI) (B : gJ) (Q : gX) (n : Nat) (o : Nat) (out : (Nat ⊕ Nat) × gK × gI × gJ × gX × gI × gJ × gX × Nat) (hf : w8_read G.2.2 (aK G) o K I J X A B Q n = some out) : GMetX l yX8_read cX8_read 2 (some (.object "PailRow$Plan")) (9) (196) G [.ref o] K I J X A B Q (xsq "PailRow$Fault" out.1) out.2.1 out.2.2.1 out.2.2.2.1 out.2.2.2.2.1 out.2.2.2.2.2.1 out.2.2.2.2.2.2.1 out.2.2.2.2.2.2.2.1 42 362 := by
  refine GMetX.of (y := yX8_read) rfl (Nat.le_of_ble_eq_true rfl) (la := [(0, .ref o)]) rfl ?_
  intro p e s m below meth c ls hx hb hr hml hlocks hts hown hname ht hG hR hW hl
  have hown : s.vm.findClass RX8 = some m.cls := hown
  have hS : va_S (gA G) s.heap s.heap [] := va_S.rf
  have hz : (∃ a, K a ≠ none) → G.2.2 ≤ s.heap.size := fun ⟨a, h⟩ => Nat.le_of_lt (Nat.lt_of_le_of_lt (hR.ge h) (hR.lt h))
  have hend : ∀ (v : Nat), out.1 = .inr v → ∀ (pc : Nat) (H : Heap) (locs : List Loc) (ls : Array Slot), decode cX8_read pc = .ok (.areturn, 1) → RS G out.2.1 out.2.2.1 out.2.2.2.1 out.2.2.2.2.1 out.2.2.2.2.2.1 out.2.2.2.2.2.2.1 out.2.2.2.2.2.2.2.1 H → va_S (gA G) s.heap H locs → W p l e ({ frames := 9, cells := 42, slots := 362, locals := 196 } : Room) s m ([.ref o] : List Value).toArray below meth c H locs 42 362 (vx_MQ below (xQ G (xsq "PailRow$Fault" out.1) out.2.1 out.2.2.1 out.2.2.2.1 out.2.2.2.2.1 out.2.2.2.2.2.1 out.2.2.2.2.2.2.1 out.2.2.2.2.2.2.2.1) (xX G (xsq "PailRow$Fault" out.1) out.2.1 out.2.2.1 out.2.2.2.1 out.2.2.2.2.1 out.2.2.2.2.2.1 out.2.2.2.2.2.2.1 out.2.2.2.2.2.2.2.1) ([.ref o] : List Value).toArray s 42 362 (gA G)) (F0 m pc ls [.ref v]) := fun v hv pc H locs ls hd hR hS => x_aret (v := some v) hx hb hr (Or.inl ⟨_, rfl⟩) hlocks hG hR hS (by rw [hv]; rfl) hd
  have hthr : ∀ (b : Nat), out.1 = .inl b → ∀ (pc : Nat) (H : Heap) (locs : List Loc) (ls : Array Slot) (rest : List Value), out.2.1 b = some (.inl 1) → RS G out.2.1 out.2.2.1 out.2.2.2.1 out.2.2.2.2.1 out.2.2.2.2.2.1 out.2.2.2.2.2.2.1 out.2.2.2.2.2.2.2.1 H → va_S (gA G) s.heap H locs → vx_W p l e ({ frames := 9, cells := 42, slots := 362, locals := 196 } : Room) s m ([.ref o] : List Value).toArray below meth c H locs 42 362 (vx_MQ below (xQ G (xsq "PailRow$Fault" out.1) out.2.1 out.2.2.1 out.2.2.2.1 out.2.2.2.2.1 out.2.2.2.2.2.1 out.2.2.2.2.2.2.1 out.2.2.2.2.2.2.2.1) (xX G (xsq "PailRow$Fault" out.1) out.2.1 out.2.2.1 out.2.2.2.1 out.2.2.2.2.1 out.2.2.2.2.2.1 out.2.2.2.2.2.2.1 out.2.2.2.2.2.2.2.1) ([.ref o] : List Value).toArray s 42 362 (gA G)) (F0 m pc ls rest) b := fun b hn pc H locs ls rest hk hR hS => x_out (ci := 1) ht hlocks hG hR hS hk rfl (by rw [hn]; rfl)
  generalize vx_MQ below (xQ G (xsq "PailRow$Fault" out.1) out.2.1 out.2.2.1 out.2.2.2.1 out.2.2.2.2.1 out.2.2.2.2.2.1 out.2.2.2.2.2.2.1 out.2.2.2.2.2.2.2.1) (xX G (xsq "PailRow$Fault" out.1) out.2.1 out.2.2.1 out.2.2.2.1 out.2.2.2.2.1 out.2.2.2.2.2.1 out.2.2.2.2.2.2.1 out.2.2.2.2.2.2.2.1) ([.ref o] : List Value).toArray s 42 362 (gA G) = Z at hend hthr ⊢
  generalize ([.ref o] : List Value).toArray = args at hts hend hthr ⊢
  unfold w8_read at hf
  obtain ⟨k0, hf⟩ := gdp_some hf
  obtain ⟨c1, hf⟩ := gdp_some hf
  obtain ⟨c2, hf⟩ := gdp_some hf
  refine b_new (ci := 4) (T := TX5) (N := 2) hx hb hts in_X5 tyX5 tyX5_ok hown (hts _ q1038) (hts _ q347) (hts _ q109) hG (BR.start (fz c1) hR) hS (hz k0) rfl (by decide) hdv_4 (by have := c2.1; show _ ≤ 42; (try dsimp only at this ⊢); omega) (by have := c2.2; show _ ≤ 362; (try dsimp only at this ⊢); omega) dX8_read_0 (fun H hB hS => ?_)
  refine lv_dup hx hb dX8_read_3 rfl ?_
  refine b_cIN (rm := (1, 12)) (As := []) (rest := [.ref n]) (mc := 1) (ms := 20) (ks2 := KS_i5) (li2 := LI_i5) (lj2 := LJ_i5) (lx2 := LX_i5 (n + 0)) (la2 := LA_i5) (lb2 := []) (lq2 := LQ_i5 G (n + 0)) ⟨hx, hb, hml, hown, hts⟩ hG hB hS rfl ⟨nofun, nofun, nofun, nofun, nofun, nofun⟩ (fun K I J X A B Q hF => i5 l G K I J X A B Q (n + 0) hF) ⟨va_cnB 0 hts (lw_meth q350) rfl rfl rfl (hG.2 _ q1039 rfl) (hts _ q109) (by decide +kernel) ⟨Nat.le_of_ble_eq_true rfl, Nat.le_of_ble_eq_true rfl⟩, rfl, hts _ q349⟩ rfl hl.1 (Nat.le_of_ble_eq_true rfl) dX8_read_4 ⟨(by have := c2.1; show _ ≤ 42; (try dsimp only at this ⊢); omega), (by have := c2.2; show _ ≤ 362; (try dsimp only at this ⊢); omega)⟩ rfl rfl (io_i5 G (n + 0)) rfl rfl rfl rfl rfl rfl rfl (fun H locs hB hS => ?_)
  have hR : RS G (bK K n KS_i5) (bm 0 I n 2 LI_i5) (bm 0 J n 2 LJ_i5) (bm none X n 2 (LX_i5 n)) (ba z0 A n 2 LA_i5) (ba z1 B n 2 []) (ba z2 Q n 2 (LQ_i5 G n)) H := hB.2.2.2
  obtain ⟨Km3, eKm3, hf⟩ := lt_some hf
  obtain ⟨Im4, eIm4, hf⟩ := lt_some hf
  obtain ⟨Jm5, eJm5, hf⟩ := lt_some hf
  obtain ⟨Xm6, eXm6, hf⟩ := lt_some hf
  obtain ⟨Am7, eAm7, hf⟩ := lt_some hf
  obtain ⟨Bm8, eBm8, hf⟩ := lt_some hf
  obtain ⟨Qm9, eQm9, hf⟩ := lt_some hf
  have hR : RS G (bK K n KS_i5) Im4 Jm5 Xm6 Am7 Bm8 Qm9 H := hR.to eIm4.symm eJm5.symm eXm6.symm eAm7.symm eBm8.symm eQm9.symm
  rw [← eKm3] at hR
  obtain ⟨n10, en10, hf⟩ := lt_some hf
  obtain ⟨u11, eu11, hf⟩ := lt_some hf
  obtain ⟨v12, ev12, hf⟩ := lt_some hf
  refine W.widen (k := u11) (n := v12) (by (try dsimp only); omega) (by (try dsimp only); omega) ?_
  refine lv_astore_n (lv' := [(1, .ref n), (0, .ref o)]) hx hb dX8_read_7 rfl hl (by decide) (by first | rfl | simp [va_rf_c]) (fun ls hl => ?_)
  refine lv_aload_n hx hb dX8_read_8 rfl (lv_at hl 1 rfl) ?_
  refine lv_iconst (v := 0) hx hb dX8_read_9 li_0 ?_
  obtain ⟨k13, hf⟩ := gdp_some hf
  refine g_puti (v := (0 : Int32)) hx hb hts hown hG hR hS gPi_X8_20_6 k13 dX8_read_10 (fun H locs hR hS => ?_)
  obtain ⟨Im14, eIm14, hf⟩ := lt_some hf
  rw [← eIm14] at hR
  refine lv_aload_n hx hb dX8_read_13 rfl (lv_at hl 1 rfl) ?_
  obtain ⟨c16, hf⟩ := gdp_some hf
  obtain ⟨a17, ha17, hf⟩ := bind_s hf
  obtain ⟨g18, hf⟩ := gdp_some hf
  obtain ⟨g19, hf⟩ := gdp_some hf
  obtain ⟨r15, hr15, hf⟩ := bind_s hf
  refine g0_cUv (rm := (4, 86)) (As := []) (rest := []) ⟨hx, hb, hml, hown, hts⟩ hG hR hS (m6_beginP l G Km3 Im14 Jm5 Xm6 Am7 Bm8 Qm9 o a17 g18 g19 ha17 (Im14 2 a17) (Im14 600 o) (Im14 601 o) (Im14 602 o) (Im14 603 o) (Im14 604 o) (Im14 605 o) (Jm5 606 o) (Am7 (a17 + 1)) rfl rfl rfl rfl rfl rfl rfl rfl rfl r15 hr15) (va_cwU (x := ⟨"PailRow$PlanReader", "begin", "()V"⟩) (owner := "PailRow$Reader") 0 hts gu_X8_24_6 rfl rfl rfl rfl ⟨by decide +kernel, by decide +kernel, by decide +kernel⟩ ⟨Nat.le_of_ble_eq_true rfl, Nat.le_of_ble_eq_true rfl⟩) g18.1 rfl rfl hl.1 (Nat.le_of_ble_eq_true rfl) dX8_read_14 ⟨c16.1, c16.2⟩ rfl (fun H locs hR hS => ?_)
  obtain ⟨Im20, eIm20, hf⟩ := lt_some hf
  obtain ⟨Jm21, eJm21, hf⟩ := lt_some hf
  rw [← eIm20, ← eJm21] at hR
  obtain ⟨rl22, hw22, hfo22⟩ := bind_s hf
  have hx22_0 : ∀ (x22_0 : gK × gI × gJ × gX × gI × gJ × gX × Nat × Nat × Nat), w8_read_e22_0 n x22_0 = some out → ∀ (H : Heap) (locs : List Loc) (ls : Array Slot), RS G x22_0.1 x22_0.2.1 x22_0.2.2.1 x22_0.2.2.2.1 x22_0.2.2.2.2.1 x22_0.2.2.2.2.2.1 x22_0.2.2.2.2.2.2.1 H → va_S (gA G) s.heap H locs → lv_has ls 2 [(0, .ref o), (1, .ref n)] → W p l e ({ frames := 9, cells := 42, slots := 362, locals := 196 } : Room) s m args below meth c H locs x22_0.2.2.2.2.2.2.2.2.1 x22_0.2.2.2.2.2.2.2.2.2 Z (F0 m 104 ls []) := by
    intro x22_0 hf H locs ls hR hS hl
    unfold w8_read_e22_0 at hf
    refine lv_aload_n hx hb dX8_read_104 rfl (lv_at hl 1 rfl) ?_
    obtain ⟨c23, hf⟩ := gdp_some hf
    refine W.widen c23.1 c23.2 ?_
    obtain rfl := some_i hf
    exact hend _ rfl _ _ _ _ dX8_read_105 hR hS
  have hx22_1 : ∀ (x22_1 : (Nat ⊕ Nat) × gK × gI × gJ × gX × gI × gJ × gX × Nat), w8_read_e22_1 x22_1 = some out → ∀ (v : Nat), x22_1.1 = .inr v → ∀ (pc : Nat) (H : Heap) (locs : List Loc) (ls : Array Slot), decode cX8_read pc = .ok (.areturn, 1) → RS G x22_1.2.1 x22_1.2.2.1 x22_1.2.2.2.1 x22_1.2.2.2.2.1 x22_1.2.2.2.2.2.1 x22_1.2.2.2.2.2.2.1 x22_1.2.2.2.2.2.2.2.1 H → va_S (gA G) s.heap H locs → W p l e ({ frames := 9, cells := 42, slots := 362, locals := 196 } : Room) s m args below meth c H locs 42 362 Z (F0 m pc ls [.ref v]) := by
    intro x22_1 hf v hv pc H locs ls hd hR hS
    unfold w8_read_e22_1 at hf
    obtain rfl := some_i hf
    exact hend _ hv _ _ _ _ hd hR hS
  have hy22_1 : ∀ (x22_1 : (Nat ⊕ Nat) × gK × gI × gJ × gX × gI × gJ × gX × Nat), w8_read_e22_1 x22_1 = some out → ∀ (b : Nat), x22_1.1 = .inl b → ∀ (pc : Nat) (H : Heap) (locs : List Loc) (ls : Array Slot) (rest : List Value), x22_1.2.1 b = some (.inl 1) → RS G x22_1.2.1 x22_1.2.2.1 x22_1.2.2.2.1 x22_1.2.2.2.2.1 x22_1.2.2.2.2.2.1 x22_1.2.2.2.2.2.2.1 x22_1.2.2.2.2.2.2.2.1 H → va_S (gA G) s.heap H locs → vx_W p l e ({ frames := 9, cells := 42, slots := 362, locals := 196 } : Room) s m args below meth c H locs 42 362 Z (F0 m pc ls rest) b := by
    intro x22_1 hf b hn pc H locs ls rest hk hR hS
    unfold w8_read_e22_1 at hf
    obtain rfl := some_i hf
    exact hthr _ hn _ _ _ _ _ hk hR hS
  refine whl_walk (P := fun (s22 : gK × gI × gJ × gX × gI × gJ × gX × Nat × Nat × Nat) => ∀ (H : Heap) (locs : List Loc) (ls : Array Slot), RS G s22.1 s22.2.1 s22.2.2.1 s22.2.2.2.1 s22.2.2.2.2.1 s22.2.2.2.2.2.1 s22.2.2.2.2.2.2.1 H → va_S (gA G) s.heap H locs → lv_has ls 2 [(0, .ref o), (1, .ref n)] → W p l e ({ frames := 9, cells := 42, slots := 362, locals := 196 } : Room) s m args below meth c H locs s22.2.2.2.2.2.2.2.2.1 s22.2.2.2.2.2.2.2.2.2 Z (F0 m 17 ls [])) (r := rl22) ?_ FU _ hw22 _ _ _ hR hS (lv_sub hl [1, 0] rfl)
  clear hR hS hl hf
  intro s22 o22 hf hk22 H locs ls hR hS hl
  obtain ⟨w22_K, w22_I, w22_J, w22_X, w22_A, w22_B, w22_Q, w22_n, w22_u, w22_v⟩ := s22
  have hf : w8_read_s22 G.2.2 (aK G) o n w22_K w22_I w22_J w22_X w22_A w22_B w22_Q w22_n w22_u w22_v = some o22 := hf
  have hR : RS G w22_K w22_I w22_J w22_X w22_A w22_B w22_Q H := hR
  have hl : lv_has ls 2 [(0, .ref o), (1, .ref n)] := hl
  unfold w8_read_s22 at hf
  refine lv_aload_n hx hb dX8_read_17 rfl (lv_at hl 0 rfl) ?_
  obtain ⟨k24, hf⟩ := gdp_some hf
  obtain ⟨v25, ev25, hf⟩ := lt_some hf
  refine n_geti (v := v25) hx hb hts hown hG hR gFi_X8_27_6 k24 ev25.symm dX8_read_18 ?_
  refine lv_if_eq (tgt := 104) hx hb dX8_read_21 (by decide) (fun c26 => ?_) (fun c26 => ?_)
  · have hf := ite_t c26 hf
    obtain rfl := some_i hf
    replace hk22 : _ = rl22 := hk22
    subst hk22
    exact hx22_0 (w22_K, w22_I, w22_J, w22_X, w22_A, w22_B, w22_Q, w22_n, w22_u, w22_v) (el_l hfo22) _ _ _ hR hS (lv_sub hl [0, 1] rfl)
  · have hf := ite_f c26 hf
    refine lv_aload_n hx hb dX8_read_24 rfl (lv_at hl 0 rfl) ?_
    refine lv_aload_n hx hb dX8_read_25 rfl (lv_at hl 0 rfl) ?_
    refine b_ldcS (k := 19) (tx := "at") hx hb hown hW (by decide) dX8_read_26 ?_
    obtain ⟨c28, hf⟩ := gdp_some hf
    obtain ⟨a29, ha29, hf⟩ := bind_s hf
    obtain ⟨g30, hf⟩ := gdp_some hf
    obtain ⟨g31, hf⟩ := gdp_some hf
    obtain ⟨r27, hr27, hf⟩ := bind_s hf
    refine x0_gor (vx_runU (As := [.ref (aK G 19)]) (rest := [.ref o]) (b := o) ⟨hx, hb, hml, hown, hts⟩ (m6_isP l G w22_K w22_I w22_J w22_X w22_A w22_B w22_Q o a29 g30 g31 ha29 19 (by decide) (w22_I 602 o) (w22_I 603 o) (w22_I 605 o) (w22_A (a29 + 1)) rfl rfl rfl rfl r27 hr27) (va_cwU (x := ⟨"PailRow$PlanReader", "is", "(Ljava/lang/String;)Z"⟩) (owner := "PailRow$Reader") 1 hts gu_X8_32_6 rfl rfl rfl rfl ⟨by decide +kernel, by decide +kernel, by decide +kernel⟩ ⟨Nat.le_of_ble_eq_true rfl, Nat.le_of_ble_eq_true rfl⟩) (x_preV hG hR hW hS g30.1 rfl) rfl rfl hl.1 rfl (lv_room (Nat.le_of_ble_eq_true rfl)) dX8_read_28 ⟨c28.1, c28.2⟩) hS (fun H locs hR hS => ?_)
    refine lv_iconst (v := 1) hx hb dX8_read_31 li_1 ?_
    obtain ⟨a33, ha33, hf⟩ := bind_s hf
    obtain ⟨g34, hf⟩ := gdp_some hf
    obtain ⟨g35, hf⟩ := gdp_some hf
    obtain ⟨g36, hf⟩ := gdp_some hf
    obtain ⟨r32, hr32, hf⟩ := bind_s hf
    refine x0_gou (vx_runU (As := [.int r27, .int (1 : Int32)]) (rest := []) (b := o) ⟨hx, hb, hml, hown, hts⟩ (m6_mustP l G w22_K w22_I w22_J w22_X w22_A w22_B w22_Q o a33 g30 g34 g35 ha33 g36 r27 (1 : Int32) (w22_I 106 (a33 + 2)) (w22_I 107 (a33 + 2)) (w22_I 602 o) rfl rfl rfl r32 hr32) (va_cwU (x := ⟨"PailRow$PlanReader", "must", "(ZI)V"⟩) (owner := "PailRow$Reader") 2 hts gu_X8_36_6 rfl rfl rfl rfl ⟨by decide +kernel, by decide +kernel, by decide +kernel⟩ ⟨Nat.le_of_ble_eq_true rfl, Nat.le_of_ble_eq_true rfl⟩) (x_preV hG hR hW hS g30.1 rfl) rfl rfl hl.1 rfl (lv_room (Nat.le_of_ble_eq_true rfl)) dX8_read_32 ⟨c28.1, c28.2⟩) hS (fun H locs hnv38 hR hS => ?_) (fun v38 H locs hvv38 hR hS => ?_)
    · have hf := tr_n hnv38 hf
      obtain ⟨Im37, eIm37, hf⟩ := lt_some hf
      rw [← eIm37] at hR
      obtain ⟨k40, hf⟩ := gdp_some hf
      obtain ⟨c41, hf⟩ := gdp_some hf
      refine vx_widen c41.1 c41.2 ?_
      obtain rfl := some_i hf
      replace hk22 : _ = rl22 := hk22
      subst hk22
      exact hy22_1 ((.inl (a33 + 2)), w22_K, Im37, w22_J, w22_X, w22_A, w22_B, w22_Q, w22_n) (el_r hfo22) _ rfl _ _ _ _ _ k40 hR hS
    have hf := tr_s hvv38 hf
    obtain ⟨Im37, eIm37, hf⟩ := lt_some hf
    rw [← eIm37] at hR
    refine lv_aload_n hx hb dX8_read_35 rfl (lv_at hl 0 rfl) ?_
    refine lv_aload_n hx hb dX8_read_36 rfl (lv_at hl 1 rfl) ?_
    obtain ⟨k42, hf⟩ := gdp_some hf
    obtain ⟨v43, ev43, hf⟩ := lt_some hf
    refine n_geti (v := v43) hx hb hts hown hG hR gFi_X8_40_4 k42 ev43.symm dX8_read_37 ?_
    refine lv_bipush (v := 20) hx hb dX8_read_40 lb_20 ?_
    have hj50 : ∀ (j50_s0 : Int32), w8_read_j50 G.2.2 (aK G) o n w22_K w22_J w22_X w22_A w22_B w22_Q w22_n w22_u w22_v Im37 j50_s0 = some o22 → ∀ (H : Heap) (locs : List Loc) (ls : Array Slot), RS G w22_K Im37 w22_J w22_X w22_A w22_B w22_Q H → va_S (gA G) s.heap H locs → lv_has ls 2 [(0, .ref o), (1, .ref n)] → W p l e ({ frames := 9, cells := 42, slots := 362, locals := 196 } : Room) s m args below meth c H locs w22_u w22_v Z (F0 m 50 ls [.int j50_s0, .ref o]) := by
      intro j50_s0 hf H locs ls hR hS hl
      unfold w8_read_j50 at hf
      refine lv_iconst (v := 4) hx hb dX8_read_50 li_4 ?_
      obtain ⟨a45, ha45, hf⟩ := bind_s hf
      obtain ⟨g46, hf⟩ := gdp_some hf
      obtain ⟨g47, hf⟩ := gdp_some hf
      obtain ⟨g48, hf⟩ := gdp_some hf
      obtain ⟨r44, hr44, hf⟩ := bind_s hf
      refine x0_gou (vx_runU (As := [.int j50_s0, .int (4 : Int32)]) (rest := []) (b := o) ⟨hx, hb, hml, hown, hts⟩ (m6_mustP l G w22_K Im37 w22_J w22_X w22_A w22_B w22_Q o a45 g30 g46 g47 ha45 g48 j50_s0 (4 : Int32) (Im37 106 (a45 + 2)) (Im37 107 (a45 + 2)) (Im37 602 o) rfl rfl rfl r44 hr44) (va_cwU (x := ⟨"PailRow$PlanReader", "must", "(ZI)V"⟩) (owner := "PailRow$Reader") 2 hts gu_X8_36_6 rfl rfl rfl rfl ⟨by decide +kernel, by decide +kernel, by decide +kernel⟩ ⟨Nat.le_of_ble_eq_true rfl, Nat.le_of_ble_eq_true rfl⟩) (x_preV hG hR hW hS g30.1 rfl) rfl rfl hl.1 rfl (lv_room (Nat.le_of_ble_eq_true rfl)) dX8_read_51 ⟨c28.1, c28.2⟩) hS (fun H locs hnv50 hR hS => ?_) (fun v50 H locs hvv50 hR hS => ?_)
      · have hf := tr_n hnv50 hf
        obtain ⟨Im49, eIm49, hf⟩ := lt_some hf
        rw [← eIm49] at hR
        obtain ⟨k52, hf⟩ := gdp_some hf
        obtain ⟨c53, hf⟩ := gdp_some hf
        refine vx_widen c53.1 c53.2 ?_
        obtain rfl := some_i hf
        replace hk22 : _ = rl22 := hk22
        subst hk22
        exact hy22_1 ((.inl (a45 + 2)), w22_K, Im49, w22_J, w22_X, w22_A, w22_B, w22_Q, w22_n) (el_r hfo22) _ rfl _ _ _ _ _ k52 hR hS
      have hf := tr_s hvv50 hf
      obtain ⟨Im49, eIm49, hf⟩ := lt_some hf
      rw [← eIm49] at hR
      refine lv_aload_n hx hb dX8_read_54 rfl (lv_at hl 0 rfl) ?_
      obtain ⟨a55, ha55, hf⟩ := bind_s hf
      obtain ⟨g56, hf⟩ := gdp_some hf
      obtain ⟨r54, hr54, hf⟩ := bind_s hf
      refine g0_cUv (rm := (3, 65)) (As := []) (rest := []) ⟨hx, hb, hml, hown, hts⟩ hG hR hS (m6_nextP l G w22_K Im49 w22_J w22_X w22_A w22_B w22_Q o a55 g30 g56 ha55 (Im49 2 a55) (Im49 600 o) (Im49 601 o) (Im49 602 o) (Im49 603 o) (Im49 604 o) (Im49 605 o) (w22_J 606 o) (w22_A (a55 + 1)) rfl rfl rfl rfl rfl rfl rfl rfl rfl r54 hr54) (va_cwU (x := ⟨"PailRow$PlanReader", "next", "()V"⟩) (owner := "PailRow$Reader") 0 hts gu_X8_43_6 rfl rfl rfl rfl ⟨by decide +kernel, by decide +kernel, by decide +kernel⟩ ⟨Nat.le_of_ble_eq_true rfl, Nat.le_of_ble_eq_true rfl⟩) g30.1 rfl rfl hl.1 (Nat.le_of_ble_eq_true rfl) dX8_read_55 ⟨c28.1, c28.2⟩ rfl (fun H locs hR hS => ?_)
      obtain ⟨Im57, eIm57, hf⟩ := lt_some hf
      obtain ⟨Jm58, eJm58, hf⟩ := lt_some hf
      rw [← eIm57, ← eJm58] at hR
      refine lv_aload_n hx hb dX8_read_58 rfl (lv_at hl 0 rfl) ?_
      refine lv_aload_n hx hb dX8_read_59 rfl (lv_at hl 0 rfl) ?_
      refine lv_aload_n hx hb dX8_read_60 rfl (lv_at hl 0 rfl) ?_
      obtain ⟨v59, ev59, hf⟩ := lt_some hf
      refine n_geti (v := v59) hx hb hts hown hG hR gFi_X8_20_6 k24 ev59.symm dX8_read_61 ?_
      refine lv_bipush (v := 59) hx hb dX8_read_64 lb_59 ?_
      obtain ⟨a61, ha61, hf⟩ := bind_s hf
      obtain ⟨g62, hf⟩ := gdp_some hf
      obtain ⟨g63, hf⟩ := gdp_some hf
      obtain ⟨g64, hf⟩ := gdp_some hf
      obtain ⟨r60, hr60, hf⟩ := bind_s hf
      refine x0_goi (vx_runU (As := [.int v59, .int (59 : Int32)]) (rest := [.ref o]) (b := o) ⟨hx, hb, hml, hown, hts⟩ (m6_numberP l G w22_K Im57 Jm58 w22_X w22_A w22_B w22_Q o a61 g30 g62 g63 ha61 g64 v59 (59 : Int32) (Im57 2 a61) (Im57 106 (a61 + 2)) (Im57 107 (a61 + 2)) (Im57 600 o) (Im57 601 o) (Im57 602 o) (Im57 603 o) (Im57 604 o) (Im57 605 o) (Jm58 606 o) (w22_A (a61 + 1)) rfl rfl rfl rfl rfl rfl rfl rfl rfl rfl rfl r60 hr60) (va_cwU (x := ⟨"PailRow$PlanReader", "number", "(II)I"⟩) (owner := "PailRow$Reader") 2 hts gu_X8_46_6 rfl rfl rfl rfl ⟨by decide +kernel, by decide +kernel, by decide +kernel⟩ ⟨Nat.le_of_ble_eq_true rfl, Nat.le_of_ble_eq_true rfl⟩) (x_preV hG hR hW hS g30.1 rfl) rfl rfl hl.1 rfl (lv_room (Nat.le_of_ble_eq_true rfl)) dX8_read_66 ⟨c28.1, c28.2⟩) hS (fun H locs hnv67 hR hS => ?_) (fun v67 H locs hvv67 hR hS => ?_)
      · have hf := tr_n hnv67 hf
        obtain ⟨Im65, eIm65, hf⟩ := lt_some hf
        obtain ⟨Jm66, eJm66, hf⟩ := lt_some hf
        rw [← eIm65, ← eJm66] at hR
        obtain ⟨k69, hf⟩ := gdp_some hf
        obtain ⟨c70, hf⟩ := gdp_some hf
        refine vx_widen c70.1 c70.2 ?_
        obtain rfl := some_i hf
        replace hk22 : _ = rl22 := hk22
        subst hk22
        exact hy22_1 ((.inl (a61 + 2)), w22_K, Im65, Jm66, w22_X, w22_A, w22_B, w22_Q, w22_n) (el_r hfo22) _ rfl _ _ _ _ _ k69 hR hS
      have hf := tr_s hvv67 hf
      obtain ⟨Im65, eIm65, hf⟩ := lt_some hf
      obtain ⟨Jm66, eJm66, hf⟩ := lt_some hf
      rw [← eIm65, ← eJm66] at hR
      refine g_puti (v := v67) hx hb hts hown hG hR hS gPi_X8_20_6 k24 dX8_read_69 (fun H locs hR hS => ?_)
      obtain ⟨Im71, eIm71, hf⟩ := lt_some hf
      rw [← eIm71] at hR
      refine lv_aload_n hx hb dX8_read_72 rfl (lv_at hl 1 rfl) ?_
      obtain ⟨x72, ex72, hf⟩ := lt_some hf
      refine g_getx hx hb hts hown hG hR gFx_X8_50_4 k42 dX8_read_73 ?_
      rw [← ex72]
      refine lv_aload_n hx hb dX8_read_76 rfl (lv_at hl 1 rfl) ?_
      obtain ⟨v73, ev73, hf⟩ := lt_some hf
      refine n_geti (v := v73) hx hb hts hown hG hR gFi_X8_40_4 k42 ev73.symm dX8_read_77 ?_
      refine lv_aload_n hx hb dX8_read_80 rfl (lv_at hl 0 rfl) ?_
      obtain ⟨c75, hf⟩ := gdp_some hf
      obtain ⟨r74, hr74, hf⟩ := bind_s hf
      refine x_gosq (vx_runV (As := []) (rest := [.int v73, va_rf x72]) (b := o) ⟨hx, hb, hml, hown, hts⟩ (m8_thing_w l G w22_K Im71 Jm66 w22_X w22_A w22_B w22_Q w22_n o r74 hr74) ⟨callB_of 0 hts (lw_meth q1060) rfl rfl rfl (hts _ q112) (hts _ q1057) (by decide +kernel) ⟨Nat.le_of_ble_eq_true rfl, Nat.le_of_ble_eq_true rfl⟩, hts _ q1059, hts _ qs7⟩ (x_preV hG hR hW hS k24 rfl) rfl rfl hl.1 rfl (lv_room (by simp [va_rf_c, cat_r, cat_i, cat_l, cat_n])) dX8_read_81 ⟨c75.1, c75.2⟩) hS (fun b77 H locs hnv76 hR hS => ?_) (fun v76 H locs hvv76 hR hS => ?_)
      · have hf := trs_l hnv76 hf
        obtain ⟨k78, hf⟩ := gdp_some hf
        obtain ⟨c79, hf⟩ := gdp_some hf
        refine vx_widen c79.1 c79.2 ?_
        obtain rfl := some_i hf
        replace hk22 : _ = rl22 := hk22
        subst hk22
        exact hy22_1 ((.inl b77), r74.2.1, r74.2.2.1, r74.2.2.2.1, r74.2.2.2.2.1, r74.2.2.2.2.2.1, r74.2.2.2.2.2.2.1, r74.2.2.2.2.2.2.2.1, r74.2.2.2.2.2.2.2.2) (el_r hfo22) _ rfl _ _ _ _ _ k78 hR hS
      have hf := trs_r hvv76 hf
      obtain ⟨a80, ha80, hf⟩ := bind_s hf
      try rw [ha80]
      obtain ⟨k81, hf⟩ := gdp_some hf
      obtain ⟨n82, hn82, hf⟩ := bind_s hf
      have kn82 := alen_k hn82
      obtain ⟨c83, hf⟩ := gdp_some hf
      refine g_aast (t := 1) hx hb hG hR hS kn82 rfl rfl k81 c83 dX8_read_84 (fun H locs hR hS => ?_)
      obtain ⟨Qm84, eQm84, hf⟩ := lt_some hf
      rw [← eQm84] at hR
      refine lv_aload_n hx hb dX8_read_85 rfl (lv_at hl 1 rfl) ?_
      refine lv_dup hx hb dX8_read_86 rfl ?_
      obtain ⟨k85, hf⟩ := gdp_some hf
      obtain ⟨v86, ev86, hf⟩ := lt_some hf
      refine n_geti (v := v86) hx hb hts hown hG hR gFi_X8_40_4 k85 ev86.symm dX8_read_87 ?_
      refine lv_iconst (v := 1) hx hb dX8_read_90 li_1 ?_
      obtain ⟨v87, ev87, hf⟩ := lt_some hf
      refine n_iadd hx hb ev87 dX8_read_91 ?_
      refine g_puti (v := v87) hx hb hts hown hG hR hS gPi_X8_40_4 k85 dX8_read_92 (fun H locs hR hS => ?_)
      obtain ⟨Im88, eIm88, hf⟩ := lt_some hf
      rw [← eIm88] at hR
      refine lv_aload_n hx hb dX8_read_95 rfl (lv_at hl 0 rfl) ?_
      refine lv_bipush (v := 59) hx hb dX8_read_96 lb_59 ?_
      obtain ⟨c90, hf⟩ := gdp_some hf
      obtain ⟨a91, ha91, hf⟩ := bind_s hf
      obtain ⟨g92, hf⟩ := gdp_some hf
      obtain ⟨g93, hf⟩ := gdp_some hf
      obtain ⟨g94, hf⟩ := gdp_some hf
      obtain ⟨g95, hf⟩ := gdp_some hf
      obtain ⟨r89, hr89, hf⟩ := bind_s hf
      refine x0_gou (vx_runU (As := [.int (59 : Int32)]) (rest := []) (b := o) ⟨hx, hb, hml, hown, hts⟩ (m6_signP l G r74.2.1 Im88 r74.2.2.2.1 r74.2.2.2.2.1 r74.2.2.2.2.2.1 r74.2.2.2.2.2.2.1 Qm84 o a91 g92 g93 g94 ha91 g95 (59 : Int32) (Im88 2 a91) (Im88 106 (a91 + 2)) (Im88 107 (a91 + 2)) (Im88 600 o) (Im88 601 o) (Im88 602 o) (Im88 603 o) (Im88 604 o) (Im88 605 o) (r74.2.2.2.1 606 o) (r74.2.2.2.2.2.1 (a91 + 1)) rfl rfl rfl rfl rfl rfl rfl rfl rfl rfl rfl r89 hr89) (va_cwU (x := ⟨"PailRow$PlanReader", "sign", "(I)V"⟩) (owner := "PailRow$Reader") 1 hts gu_X8_58_6 rfl rfl rfl rfl ⟨by decide +kernel, by decide +kernel, by decide +kernel⟩ ⟨Nat.le_of_ble_eq_true rfl, Nat.le_of_ble_eq_true rfl⟩) (x_preV hG hR hW hS g92.1 rfl) rfl rfl hl.1 rfl (lv_room (Nat.le_of_ble_eq_true rfl)) dX8_read_98 ⟨c90.1, c90.2⟩) hS (fun H locs hnv98 hR hS => ?_) (fun v98 H locs hvv98 hR hS => ?_)
      · have hf := tr_n hnv98 hf
        obtain ⟨Im96, eIm96, hf⟩ := lt_some hf
        obtain ⟨Jm97, eJm97, hf⟩ := lt_some hf
        rw [← eIm96, ← eJm97] at hR
        obtain ⟨k100, hf⟩ := gdp_some hf
        obtain ⟨c101, hf⟩ := gdp_some hf
        refine vx_widen c101.1 c101.2 ?_
        obtain rfl := some_i hf
        replace hk22 : _ = rl22 := hk22
        subst hk22
        exact hy22_1 ((.inl (a91 + 2)), r74.2.1, Im96, Jm97, r74.2.2.2.2.1, r74.2.2.2.2.2.1, r74.2.2.2.2.2.2.1, Qm84, r74.2.2.2.2.2.2.2.2) (el_r hfo22) _ rfl _ _ _ _ _ k100 hR hS
      have hf := tr_s hvv98 hf
      obtain ⟨Im96, eIm96, hf⟩ := lt_some hf
      obtain ⟨Jm97, eJm97, hf⟩ := lt_some hf
      rw [← eIm96, ← eJm97] at hR
      refine lv_goto (tgt := 17) hx hb dX8_read_101 (by decide) ?_
      obtain rfl := some_i hf
      exact hk22 _ _ _ hR hS (lv_sub hl [0, 1] rfl)
    refine lv_icmp_ge (tgt := 49) hx hb dX8_read_42 (by decide) (fun c102 => ?_) (fun c102 => ?_)
    · have hf := ite_t c102 hf
      refine lv_iconst (v := 0) hx hb dX8_read_49 li_0 ?_
      exact hj50 (0 : Int32) hf _ _ _ hR hS (lv_sub hl [0, 1] rfl)
    · have hf := ite_f c102 hf
      refine lv_iconst (v := 1) hx hb dX8_read_45 li_1 ?_
      refine lv_goto (tgt := 50) hx hb dX8_read_46 (by decide) ?_
      exact hj50 (1 : Int32) hf _ _ _ hR hS (lv_sub hl [0, 1] rfl)
noncomputable def w3_be (zz : Nat) (adS : Nat → Nat) (o : Nat) (a1 : Nat) (K : gK) (I : gI) (J : gJ) (X : gX) (A : gI) (B : gJ) (Q : gX) (n : Nat) : Option (gK × gI × gJ × gX × gI × gJ × gX × Nat) :=
  gdp (K a1 = some (.inl 2)) <|
  lt (X 200 a1) fun x2 =>
  gdp (K o = some (.inl 2)) <|
  lt (i_up X 200 o x2) fun Xm4 =>
  lt (Xm4 201 a1) fun x5 =>
  lt (i_up Xm4 201 o x5) fun Xm6 =>
  lt (Xm6 202 a1) fun x7 =>
  lt (i_up Xm6 202 o x7) fun Xm8 =>
  some (K, I, J, Xm8, A, B, Q, n)
set_option maxHeartbeats 4000000 in
theorem m3_be_w (l : Launch) (G : gG) (K : gK) (I : gI) (J : gJ) (X : gX) (A : gI) (B : gJ) (Q : gX) (n : Nat) (o : Nat) (a1 : Nat) (out : gK × gI × gJ × gX × gI × gJ × gX × Nat) (hf : w3_be G.2.2 (aK G) o a1 K I J X A B Q n = some out) : GMetX l yX3_be cX3_be 2 none (0) (0) G [.ref o, .ref a1] K I J X A B Q (.inr none) out.1 out.2.1 out.2.2.1 out.2.2.2.1 out.2.2.2.2.1 out.2.2.2.2.2.1 out.2.2.2.2.2.2.1 0 0 := by
  refine GMetX.of (y := yX3_be) rfl (Nat.le_of_ble_eq_true rfl) (la := [(0, .ref o), (1, .ref a1)]) rfl ?_
  intro p e s m below meth c ls hx hb hr hml hlocks hts hown hname ht hG hR hW hl
  have hown : s.vm.findClass RX3 = some m.cls := hown
  have hS : va_S (gA G) s.heap s.heap [] := va_S.rf
  have hend : ∀ (pc : Nat) (H : Heap) (locs : List Loc) (ls : Array Slot), decode cX3_be pc = .ok (.return_, 1) → RS G out.1 out.2.1 out.2.2.1 out.2.2.2.1 out.2.2.2.2.1 out.2.2.2.2.2.1 out.2.2.2.2.2.2.1 H → va_S (gA G) s.heap H locs → W p l e ({ frames := 0, cells := 0, slots := 0, locals := 0 } : Room) s m ([.ref o, .ref a1] : List Value).toArray below meth c H locs 0 0 (vx_MQ below (xQ G (.inr none) out.1 out.2.1 out.2.2.1 out.2.2.2.1 out.2.2.2.2.1 out.2.2.2.2.2.1 out.2.2.2.2.2.2.1) (xX G (.inr none) out.1 out.2.1 out.2.2.1 out.2.2.2.1 out.2.2.2.2.1 out.2.2.2.2.2.1 out.2.2.2.2.2.2.1) ([.ref o, .ref a1] : List Value).toArray s 0 0 (gA G)) (F0 m pc ls []) := fun pc H locs ls hd hR hS => x_vret hx hb hr hlocks hG hR hS rfl hd
  generalize vx_MQ below (xQ G (.inr none) out.1 out.2.1 out.2.2.1 out.2.2.2.1 out.2.2.2.2.1 out.2.2.2.2.2.1 out.2.2.2.2.2.2.1) (xX G (.inr none) out.1 out.2.1 out.2.2.1 out.2.2.2.1 out.2.2.2.2.1 out.2.2.2.2.2.1 out.2.2.2.2.2.2.1) ([.ref o, .ref a1] : List Value).toArray s 0 0 (gA G) = Z at hend ⊢
  generalize ([.ref o, .ref a1] : List Value).toArray = args at hts hend ⊢
  unfold w3_be at hf
  refine lv_aload_n hx hb dX3_be_0 rfl (lv_at hl 0 rfl) ?_
  refine lv_aload_n hx hb dX3_be_1 rfl (lv_at hl 1 rfl) ?_
  obtain ⟨k1, hf⟩ := gdp_some hf
  obtain ⟨x2, ex2, hf⟩ := lt_some hf
  refine g_getx hx hb hts hown hG hR gFx_X3_10_2 k1 dX3_be_2 ?_
  rw [← ex2]
  obtain ⟨k3, hf⟩ := gdp_some hf
  refine g_putx (v := x2) hx hb hts hown hG hR hS gPx_X3_10_2 k3 dX3_be_5 (fun H locs hR hS => ?_)
  obtain ⟨Xm4, eXm4, hf⟩ := lt_some hf
  rw [← eXm4] at hR
  refine lv_aload_n hx hb dX3_be_8 rfl (lv_at hl 0 rfl) ?_
  refine lv_aload_n hx hb dX3_be_9 rfl (lv_at hl 1 rfl) ?_
  obtain ⟨x5, ex5, hf⟩ := lt_some hf
  refine g_getx hx hb hts hown hG hR gFx_X3_19_2 k1 dX3_be_10 ?_
  rw [← ex5]
  refine g_putx (v := x5) hx hb hts hown hG hR hS gPx_X3_19_2 k3 dX3_be_13 (fun H locs hR hS => ?_)
  obtain ⟨Xm6, eXm6, hf⟩ := lt_some hf
  rw [← eXm6] at hR
  refine lv_aload_n hx hb dX3_be_16 rfl (lv_at hl 0 rfl) ?_
  refine lv_aload_n hx hb dX3_be_17 rfl (lv_at hl 1 rfl) ?_
  obtain ⟨x7, ex7, hf⟩ := lt_some hf
  refine g_getx hx hb hts hown hG hR gFx_X3_23_2 k1 dX3_be_18 ?_
  rw [← ex7]
  refine g_putx (v := x7) hx hb hts hown hG hR hS gPx_X3_23_2 k3 dX3_be_21 (fun H locs hR hS => ?_)
  obtain ⟨Xm8, eXm8, hf⟩ := lt_some hf
  rw [← eXm8] at hR
  obtain rfl := some_i hf
  exact hend _ _ _ _ dX3_be_24 hR hS
noncomputable def w1_image_j33 (zz : Nat) (adS : Nat → Nat) (o : Nat) (p1 : Int32) (j33_K : gK) (j33_I : gI) (j33_J : gJ) (j33_X : gX) (j33_A : gI) (j33_B : gJ) (j33_Q : gX) (j33_n : Nat) (j33_u : Nat) (j33_v : Nat) : Option (Int32 × gK × gI × gJ × gX × gI × gJ × gX × Nat) :=
  gdp (j33_K o = some (.inl 0)) <|
  lt (j33_X 51 o) fun x10 =>
  (x10).bind fun a11 =>
  (alen j33_K a11 7).bind fun n12 =>
  gdp (inb p1 n12) <|
  lt (j33_Q a11 p1.toNatClampNeg) fun x14 =>
  lt (j33_X 9 o) fun x15 =>
  (x14).bind fun a16 =>
  (x15).bind fun a17 =>
  gdp (j33_K a16 = some (.inl 2)) <|
  gdp (j33_u ≤ 7 ∧ j33_v ≤ 180) <|
  (w3_be zz adS a16 a17 j33_K j33_I j33_J j33_X j33_A j33_B j33_Q j33_n).bind fun r19 =>
  gdp (j33_u ≤ 7 ∧ j33_v ≤ 180) <|
  some ((1 : Int32), r19.1, r19.2.1, r19.2.2.1, r19.2.2.2.1, r19.2.2.2.2.1, r19.2.2.2.2.2.1, r19.2.2.2.2.2.2.1, r19.2.2.2.2.2.2.2)

noncomputable def w1_image (zz : Nat) (adS : Nat → Nat) (o : Nat) (p1 : Int32) (K : gK) (I : gI) (J : gJ) (X : gX) (A : gI) (B : gJ) (Q : gX) (n : Nat) : Option (Int32 × gK × gI × gJ × gX × gI × gJ × gX × Nat) :=
  gdp (∃ a, K a ≠ none) <|
  (f1_isIn p1 (0 : Int32) (1 : Int32)).bind fun r1 =>
  if r1 = 0 then
    gdp (0 ≤ 7 ∧ 0 ≤ 180) <|
    some ((0 : Int32), K, I, J, X, A, B, Q, n)
  else
    gdp (K o = some (.inl 0)) <|
    lt (X 51 o) fun x4 =>
    (x4).bind fun a5 =>
    (alen K a5 7).bind fun n6 =>
    gdp (inb p1 n6) <|
    lt (Q a5 p1.toNatClampNeg) fun x8 =>
    if x8 = none then
      gdp (freshz zz K n) <|
      gdp (0 + 7 ≤ 7 ∧ 0 + 180 ≤ 180) <|
      lt (bK K n KS_i3) fun Km25 =>
      lt (bm 0 I n 7 LI_i3) fun Im26 =>
      lt (bm 0 J n 7 LJ_i3) fun Jm27 =>
      lt (bm none X n 7 (LX_i3 n)) fun Xm28 =>
      lt (ba z0 A n 7 LA_i3) fun Am29 =>
      lt (ba z1 B n 7 []) fun Bm30 =>
      lt (ba z2 Q n 7 []) fun Qm31 =>
      lt (n + 7) fun n32 =>
      lt (0 + 7) fun u33 =>
      lt (0 + 180) fun v34 =>
      gdp (Km25 n = some (.inl 2)) <|
      (alen Km25 a5 7).bind fun n36 =>
      gdp (inb p1 n36) <|
      lt (a_up Qm31 a5 (va_up (Qm31 a5) p1.toNatClampNeg (some n))) fun Qm38 =>
      w1_image_j33 zz adS o p1 Km25 Im26 Jm27 Xm28 Am29 Bm30 Qm38 n32 u33 v34
    else
      w1_image_j33 zz adS o p1 K I J X A B Q n 0 0
set_option maxHeartbeats 4000000 in
theorem m1_image_w (l : Launch) (G : gG) (K : gK) (I : gI) (J : gJ) (X : gX) (A : gI) (B : gJ) (Q : gX) (n : Nat) (o : Nat) (p1 : Int32) (out : Int32 × gK × gI × gJ × gX × gI × gJ × gX × Nat) (hf : w1_image G.2.2 (aK G) o p1 K I J X A B Q n = some out) : GMetX l yX1_image cX1_image 2 (some .boolean) (3) (52) G [.ref o, .int p1] K I J X A B Q (.inr (some (.int out.1))) out.2.1 out.2.2.1 out.2.2.2.1 out.2.2.2.2.1 out.2.2.2.2.2.1 out.2.2.2.2.2.2.1 out.2.2.2.2.2.2.2.1 7 180 := by
  refine GMetX.of (y := yX1_image) rfl (Nat.le_of_ble_eq_true rfl) (la := [(0, .ref o), (1, .int p1)]) rfl ?_
  intro p e s m below meth c ls hx hb hr hml hlocks hts hown hname ht hG hR hW hl
  have hown : s.vm.findClass RX1 = some m.cls := hown
  have hS : va_S (gA G) s.heap s.heap [] := va_S.rf
  have hz : (∃ a, K a ≠ none) → G.2.2 ≤ s.heap.size := fun ⟨a, h⟩ => Nat.le_of_lt (Nat.lt_of_le_of_lt (hR.ge h) (hR.lt h))
  have hend : ∀ (pc : Nat) (H : Heap) (locs : List Loc) (ls : Array Slot), decode cX1_image pc = .ok (.ireturn, 1) → narrow .boolean (.int out.1) = .int out.1 → RS G out.2.1 out.2.2.1 out.2.2.2.1 out.2.2.2.2.1 out.2.2.2.2.2.1 out.2.2.2.2.2.2.1 out.2.2.2.2.2.2.2.1 H → va_S (gA G) s.heap H locs → W p l e ({ frames := 3, cells := 7, slots := 180, locals := 52 } : Room) s m ([.ref o, .int p1] : List Value).toArray below meth c H locs 7 180 (vx_MQ below (xQ G (.inr (some (.int out.1))) out.2.1 out.2.2.1 out.2.2.2.1 out.2.2.2.2.1 out.2.2.2.2.2.1 out.2.2.2.2.2.2.1 out.2.2.2.2.2.2.2.1) (xX G (.inr (some (.int out.1))) out.2.1 out.2.2.1 out.2.2.2.1 out.2.2.2.2.1 out.2.2.2.2.2.1 out.2.2.2.2.2.2.1 out.2.2.2.2.2.2.2.1) ([.ref o, .int p1] : List Value).toArray s 7 180 (gA G)) (F0 m pc ls [.int out.1]) := fun pc H locs ls hd hz hR hS => x_nret hx hb hr hz hlocks hG hR hS rfl hd
  generalize vx_MQ below (xQ G (.inr (some (.int out.1))) out.2.1 out.2.2.1 out.2.2.2.1 out.2.2.2.2.1 out.2.2.2.2.2.1 out.2.2.2.2.2.2.1 out.2.2.2.2.2.2.2.1) (xX G (.inr (some (.int out.1))) out.2.1 out.2.2.1 out.2.2.2.1 out.2.2.2.2.1 out.2.2.2.2.2.1 out.2.2.2.2.2.2.1 out.2.2.2.2.2.2.2.1) ([.ref o, .int p1] : List Value).toArray s 7 180 (gA G) = Z at hend ⊢
  generalize ([.ref o, .int p1] : List Value).toArray = args at hts hend ⊢
  unfold w1_image at hf
  obtain ⟨k0, hf⟩ := gdp_some hf
  refine lv_iload_n hx hb dX1_image_0 rfl (lv_at hl 1 rfl) ?_
  refine lv_iconst (v := 0) hx hb dX1_image_1 li_0 ?_
  refine lv_iconst (v := 1) hx hb dX1_image_2 li_1 ?_
  obtain ⟨r1, hr1, hf⟩ := bind_s hf
  refine g0_cS (rm := (0, 0)) (As := [.int p1, .int (0 : Int32), .int (1 : Int32)]) (rest := []) ⟨hx, hb, hml, hown, hts⟩ hG hR hS (m1_isIn l G K I J X A B Q p1 (0 : Int32) (1 : Int32) r1 hr1) ⟨callB_of 3 hts (lw_meth q862) rfl rfl rfl (hts _ q103) (hts _ q1121) (by decide +kernel) ⟨Nat.le_of_ble_eq_true rfl, Nat.le_of_ble_eq_true rfl⟩, hts _ q861⟩ rfl hl.1 (Nat.le_of_ble_eq_true rfl) dX1_image_3 ⟨Nat.zero_le _, Nat.zero_le _⟩ rfl (fun H locs hR hS => ?_)
  refine lv_if_ne (tgt := 11) hx hb dX1_image_6 (by decide) (fun c2 => ?_) (fun c2 => ?_)
  · have hf := ite_f c2 hf
    refine lv_aload_n hx hb dX1_image_11 rfl (lv_at hl 0 rfl) ?_
    obtain ⟨k3, hf⟩ := gdp_some hf
    obtain ⟨x4, ex4, hf⟩ := lt_some hf
    refine g_getx hx hb hts hown hG hR gFx_X1_210_0 k3 dX1_image_12 ?_
    rw [← ex4]
    refine lv_iload_n hx hb dX1_image_15 rfl (lv_at hl 1 rfl) ?_
    obtain ⟨a5, ha5, hf⟩ := bind_s hf
    try rw [ha5]
    obtain ⟨n6, hn6, hf⟩ := bind_s hf
    have kn6 := alen_k hn6
    obtain ⟨c7, hf⟩ := gdp_some hf
    obtain ⟨x8, ex8, hf⟩ := lt_some hf
    refine g_aald (t := 3) hx hb hG hR kn6 (by decide) c7 dX1_image_16 ?_
    rw [← ex8]
    have hj33 : ∀ (j33_K : gK) (j33_I : gI) (j33_J : gJ) (j33_X : gX) (j33_A : gI) (j33_B : gJ) (j33_Q : gX) (j33_n : Nat) (j33_u : Nat) (j33_v : Nat), w1_image_j33 G.2.2 (aK G) o p1 j33_K j33_I j33_J j33_X j33_A j33_B j33_Q j33_n j33_u j33_v = some out → ∀ (H : Heap) (locs : List Loc) (ls : Array Slot), RS G j33_K j33_I j33_J j33_X j33_A j33_B j33_Q H → va_S (gA G) s.heap H locs → lv_has ls 2 [(0, .ref o), (1, .int p1)] → W p l e ({ frames := 3, cells := 7, slots := 180, locals := 52 } : Room) s m args below meth c H locs j33_u j33_v Z (F0 m 33 ls []) := by
      intro j33_K j33_I j33_J j33_X j33_A j33_B j33_Q j33_n j33_u j33_v hf H locs ls hR hS hl
      unfold w1_image_j33 at hf
      refine lv_aload_n hx hb dX1_image_33 rfl (lv_at hl 0 rfl) ?_
      obtain ⟨k9, hf⟩ := gdp_some hf
      obtain ⟨x10, ex10, hf⟩ := lt_some hf
      refine g_getx hx hb hts hown hG hR gFx_X1_210_0 k9 dX1_image_34 ?_
      rw [← ex10]
      refine lv_iload_n hx hb dX1_image_37 rfl (lv_at hl 1 rfl) ?_
      obtain ⟨a11, ha11, hf⟩ := bind_s hf
      try rw [ha11]
      obtain ⟨n12, hn12, hf⟩ := bind_s hf
      have kn12 := alen_k hn12
      obtain ⟨c13, hf⟩ := gdp_some hf
      obtain ⟨x14, ex14, hf⟩ := lt_some hf
      refine g_aald (t := 3) hx hb hG hR kn12 (by decide) c13 dX1_image_38 ?_
      rw [← ex14]
      refine lv_aload_n hx hb dX1_image_39 rfl (lv_at hl 0 rfl) ?_
      obtain ⟨x15, ex15, hf⟩ := lt_some hf
      refine g_getx hx hb hts hown hG hR gFx_X1_96_0 k9 dX1_image_40 ?_
      rw [← ex15]
      obtain ⟨a16, ha16, hf⟩ := bind_s hf
      try rw [ha16]
      obtain ⟨a17, ha17, hf⟩ := bind_s hf
      try rw [ha17]
      obtain ⟨k18, hf⟩ := gdp_some hf
      obtain ⟨c20, hf⟩ := gdp_some hf
      obtain ⟨r19, hr19, hf⟩ := bind_s hf
      refine x0_gor (vx_runV (As := [.ref a17]) (rest := []) (b := a16) ⟨hx, hb, hml, hown, hts⟩ (m3_be_w l G j33_K j33_I j33_J j33_X j33_A j33_B j33_Q j33_n a16 a17 r19 hr19) ⟨callB_of 1 hts (lw_meth q1553) rfl rfl rfl (hts _ q107) (hts _ q1550) (by decide +kernel) ⟨Nat.le_of_ble_eq_true rfl, Nat.le_of_ble_eq_true rfl⟩, hts _ q1551, hts _ q1552⟩ (x_preV hG hR hW hS k18 rfl) rfl rfl hl.1 rfl (lv_room (Nat.le_of_ble_eq_true rfl)) dX1_image_43 ⟨c20.1, c20.2⟩) hS (fun H locs hR hS => ?_)
      refine lv_iconst (v := 1) hx hb dX1_image_46 li_1 ?_
      obtain ⟨c21, hf⟩ := gdp_some hf
      refine W.widen c21.1 c21.2 ?_
      obtain rfl := some_i hf
      exact hend _ _ _ _ dX1_image_47 nz_1 hR hS
    by_cases c22 : x8 = none
    · have hf := ite_t c22 hf
      refine n_isnone c22 ?_
      refine lv_ifnonnullN hx hb dX1_image_17 ?_
      refine lv_aload_n hx hb dX1_image_20 rfl (lv_at hl 0 rfl) ?_
      refine g_getx hx hb hts hown hG hR gFx_X1_210_0 k3 dX1_image_21 ?_
      rw [← ex4]
      refine lv_iload_n hx hb dX1_image_24 rfl (lv_at hl 1 rfl) ?_
      obtain ⟨c23, hf⟩ := gdp_some hf
      obtain ⟨c24, hf⟩ := gdp_some hf
      refine b_new (ci := 2) (T := TX3) (N := 3) hx hb hts in_X3 tyX3 tyX3_ok hown (hts _ q243) (hts _ q244) (hts _ q107) hG (BR.start (fz c23) hR) hS (hz k0) rfl (by decide) hdv_2 (by have := c24.1; show _ ≤ 7; (try dsimp only at this ⊢); omega) (by have := c24.2; show _ ≤ 180; (try dsimp only at this ⊢); omega) dX1_image_25 (fun H hB hS => ?_)
      refine lv_dup hx hb dX1_image_28 rfl ?_
      refine b_cIN (rm := (2, 32)) (As := []) (rest := [.ref n, .int p1, va_rf x4]) (mc := 6) (ms := 177) (ks2 := KS_i3) (li2 := LI_i3) (lj2 := LJ_i3) (lx2 := LX_i3 (n + 0)) (la2 := LA_i3) (lb2 := []) (lq2 := LQ_i3 G (n + 0)) ⟨hx, hb, hml, hown, hts⟩ hG hB hS rfl ⟨nofun, nofun, nofun, nofun, nofun, nofun⟩ (fun K I J X A B Q hF => i3 l G K I J X A B Q (n + 0) hF) ⟨va_cnB 0 hts (lw_meth q247) rfl rfl rfl (hG.2 _ q245 rfl) (hts _ q107) (by decide +kernel) ⟨Nat.le_of_ble_eq_true rfl, Nat.le_of_ble_eq_true rfl⟩, rfl, hts _ q246⟩ rfl hl.1 (by simp [va_rf_c, cat_r, cat_i, cat_l, cat_n]) dX1_image_29 ⟨(by have := c24.1; show _ ≤ 7; (try dsimp only at this ⊢); omega), (by have := c24.2; show _ ≤ 180; (try dsimp only at this ⊢); omega)⟩ rfl rfl (io_i3 G (n + 0)) rfl rfl rfl rfl rfl rfl rfl (fun H locs hB hS => ?_)
      have hR : RS G (bK K n KS_i3) (bm 0 I n 7 LI_i3) (bm 0 J n 7 LJ_i3) (bm none X n 7 (LX_i3 n)) (ba z0 A n 7 LA_i3) (ba z1 B n 7 []) (ba z2 Q n 7 (LQ_i3 G n)) H := hB.2.2.2
      obtain ⟨Km25, eKm25, hf⟩ := lt_some hf
      obtain ⟨Im26, eIm26, hf⟩ := lt_some hf
      obtain ⟨Jm27, eJm27, hf⟩ := lt_some hf
      obtain ⟨Xm28, eXm28, hf⟩ := lt_some hf
      obtain ⟨Am29, eAm29, hf⟩ := lt_some hf
      obtain ⟨Bm30, eBm30, hf⟩ := lt_some hf
      obtain ⟨Qm31, eQm31, hf⟩ := lt_some hf
      have hR : RS G (bK K n KS_i3) Im26 Jm27 Xm28 Am29 Bm30 Qm31 H := hR.to eIm26.symm eJm27.symm eXm28.symm eAm29.symm eBm30.symm eQm31.symm
      rw [← eKm25] at hR
      obtain ⟨n32, en32, hf⟩ := lt_some hf
      obtain ⟨u33, eu33, hf⟩ := lt_some hf
      obtain ⟨v34, ev34, hf⟩ := lt_some hf
      refine W.widen (k := u33) (n := v34) (by (try dsimp only); omega) (by (try dsimp only); omega) ?_
      try rw [ha5]
      obtain ⟨k35, hf⟩ := gdp_some hf
      obtain ⟨n36, hn36, hf⟩ := bind_s hf
      have kn36 := alen_k hn36
      obtain ⟨c37, hf⟩ := gdp_some hf
      refine g_aast (t := 3) hx hb hG hR hS kn36 rfl rfl k35 c37 dX1_image_32 (fun H locs hR hS => ?_)
      obtain ⟨Qm38, eQm38, hf⟩ := lt_some hf
      rw [← eQm38] at hR
      exact hj33 Km25 Im26 Jm27 Xm28 Am29 Bm30 Qm38 n32 u33 v34 hf _ _ _ hR hS (lv_sub hl [0, 1] rfl)
    · have hf := ite_f c22 hf
      obtain ⟨yc22, hc22⟩ := Option.ne_none_iff_exists'.mp c22
      refine n_some hc22 ?_
      refine lv_ifnonnull (tgt := 33) hx hb dX1_image_17 (by decide) ?_
      exact hj33 K I J X A B Q n 0 0 hf _ _ _ hR hS (lv_sub hl [0, 1] rfl)
  · have hf := ite_t c2 hf
    refine lv_iconst (v := 0) hx hb dX1_image_9 li_0 ?_
    obtain ⟨c39, hf⟩ := gdp_some hf
    refine W.widen c39.1 c39.2 ?_
    obtain rfl := some_i hf
    exact hend _ _ _ _ dX1_image_10 nz_0 hR hS
noncomputable def w1_restore (zz : Nat) (adS : Nat → Nat) (o : Nat) (p1 : Int32) (K : gK) (I : gI) (J : gJ) (X : gX) (A : gI) (B : gJ) (Q : gX) (n : Nat) : Option (Int32 × gK × gI × gJ × gX × gI × gJ × gX × Nat) :=
  (f1_isIn p1 (0 : Int32) (1 : Int32)).bind fun r1 =>
  if r1 = 0 then
    some ((0 : Int32), K, I, J, X, A, B, Q, n)
  else
    gdp (K o = some (.inl 0)) <|
    lt (X 51 o) fun x4 =>
    (x4).bind fun a5 =>
    (alen K a5 7).bind fun n6 =>
    gdp (inb p1 n6) <|
    lt (Q a5 p1.toNatClampNeg) fun x8 =>
    if x8 = none then
      some ((0 : Int32), K, I, J, X, A, B, Q, n)
    else
      lt (X 9 o) fun x10 =>
      gdp (inb p1 n6) <|
      (x10).bind fun a12 =>
      (x8).bind fun a13 =>
      gdp (K a12 = some (.inl 2)) <|
      (w3_be zz adS a12 a13 K I J X A B Q n).bind fun r15 =>
      some ((1 : Int32), r15.1, r15.2.1, r15.2.2.1, r15.2.2.2.1, r15.2.2.2.2.1, r15.2.2.2.2.2.1, r15.2.2.2.2.2.2.1, r15.2.2.2.2.2.2.2)
set_option maxHeartbeats 4000000 in
theorem m1_restore_w (l : Launch) (G : gG) (K : gK) (I : gI) (J : gJ) (X : gX) (A : gI) (B : gJ) (Q : gX) (n : Nat) (o : Nat) (p1 : Int32) (out : Int32 × gK × gI × gJ × gX × gI × gJ × gX × Nat) (hf : w1_restore G.2.2 (aK G) o p1 K I J X A B Q n = some out) : GMetX l yX1_restore cX1_restore 2 (some .boolean) (1) (22) G [.ref o, .int p1] K I J X A B Q (.inr (some (.int out.1))) out.2.1 out.2.2.1 out.2.2.2.1 out.2.2.2.2.1 out.2.2.2.2.2.1 out.2.2.2.2.2.2.1 out.2.2.2.2.2.2.2.1 0 0 := by
  refine GMetX.of (y := yX1_restore) rfl (Nat.le_of_ble_eq_true rfl) (la := [(0, .ref o), (1, .int p1)]) rfl ?_
  intro p e s m below meth c ls hx hb hr hml hlocks hts hown hname ht hG hR hW hl
  have hown : s.vm.findClass RX1 = some m.cls := hown
  have hS : va_S (gA G) s.heap s.heap [] := va_S.rf
  have hend : ∀ (pc : Nat) (H : Heap) (locs : List Loc) (ls : Array Slot), decode cX1_restore pc = .ok (.ireturn, 1) → narrow .boolean (.int out.1) = .int out.1 → RS G out.2.1 out.2.2.1 out.2.2.2.1 out.2.2.2.2.1 out.2.2.2.2.2.1 out.2.2.2.2.2.2.1 out.2.2.2.2.2.2.2.1 H → va_S (gA G) s.heap H locs → W p l e ({ frames := 1, cells := 0, slots := 0, locals := 22 } : Room) s m ([.ref o, .int p1] : List Value).toArray below meth c H locs 0 0 (vx_MQ below (xQ G (.inr (some (.int out.1))) out.2.1 out.2.2.1 out.2.2.2.1 out.2.2.2.2.1 out.2.2.2.2.2.1 out.2.2.2.2.2.2.1 out.2.2.2.2.2.2.2.1) (xX G (.inr (some (.int out.1))) out.2.1 out.2.2.1 out.2.2.2.1 out.2.2.2.2.1 out.2.2.2.2.2.1 out.2.2.2.2.2.2.1 out.2.2.2.2.2.2.2.1) ([.ref o, .int p1] : List Value).toArray s 0 0 (gA G)) (F0 m pc ls [.int out.1]) := fun pc H locs ls hd hz hR hS => x_nret hx hb hr hz hlocks hG hR hS rfl hd
  generalize vx_MQ below (xQ G (.inr (some (.int out.1))) out.2.1 out.2.2.1 out.2.2.2.1 out.2.2.2.2.1 out.2.2.2.2.2.1 out.2.2.2.2.2.2.1 out.2.2.2.2.2.2.2.1) (xX G (.inr (some (.int out.1))) out.2.1 out.2.2.1 out.2.2.2.1 out.2.2.2.2.1 out.2.2.2.2.2.1 out.2.2.2.2.2.2.1 out.2.2.2.2.2.2.2.1) ([.ref o, .int p1] : List Value).toArray s 0 0 (gA G) = Z at hend ⊢
  generalize ([.ref o, .int p1] : List Value).toArray = args at hts hend ⊢
  unfold w1_restore at hf
  refine lv_iload_n hx hb dX1_restore_0 rfl (lv_at hl 1 rfl) ?_
  refine lv_iconst (v := 0) hx hb dX1_restore_1 li_0 ?_
  refine lv_iconst (v := 1) hx hb dX1_restore_2 li_1 ?_
  obtain ⟨r1, hr1, hf⟩ := bind_s hf
  refine g0_cS (rm := (0, 0)) (As := [.int p1, .int (0 : Int32), .int (1 : Int32)]) (rest := []) ⟨hx, hb, hml, hown, hts⟩ hG hR hS (m1_isIn l G K I J X A B Q p1 (0 : Int32) (1 : Int32) r1 hr1) ⟨callB_of 3 hts (lw_meth q862) rfl rfl rfl (hts _ q103) (hts _ q1121) (by decide +kernel) ⟨Nat.le_of_ble_eq_true rfl, Nat.le_of_ble_eq_true rfl⟩, hts _ q861⟩ rfl hl.1 (Nat.le_of_ble_eq_true rfl) dX1_restore_3 ⟨Nat.zero_le _, Nat.zero_le _⟩ rfl (fun H locs hR hS => ?_)
  refine lv_if_eq (tgt := 18) hx hb dX1_restore_6 (by decide) (fun c2 => ?_) (fun c2 => ?_)
  · have hf := ite_t c2 hf
    refine lv_iconst (v := 0) hx hb dX1_restore_18 li_0 ?_
    obtain rfl := some_i hf
    exact hend _ _ _ _ dX1_restore_19 nz_0 hR hS
  · have hf := ite_f c2 hf
    refine lv_aload_n hx hb dX1_restore_9 rfl (lv_at hl 0 rfl) ?_
    obtain ⟨k3, hf⟩ := gdp_some hf
    obtain ⟨x4, ex4, hf⟩ := lt_some hf
    refine g_getx hx hb hts hown hG hR gFx_X1_210_0 k3 dX1_restore_10 ?_
    rw [← ex4]
    refine lv_iload_n hx hb dX1_restore_13 rfl (lv_at hl 1 rfl) ?_
    obtain ⟨a5, ha5, hf⟩ := bind_s hf
    try rw [ha5]
    obtain ⟨n6, hn6, hf⟩ := bind_s hf
    have kn6 := alen_k hn6
    obtain ⟨c7, hf⟩ := gdp_some hf
    obtain ⟨x8, ex8, hf⟩ := lt_some hf
    refine g_aald (t := 3) hx hb hG hR kn6 (by decide) c7 dX1_restore_14 ?_
    rw [← ex8]
    by_cases c9 : x8 = none
    · have hf := ite_t c9 hf
      refine n_isnone c9 ?_
      refine lv_ifnonnullN hx hb dX1_restore_15 ?_
      refine lv_iconst (v := 0) hx hb dX1_restore_18 li_0 ?_
      obtain rfl := some_i hf
      exact hend _ _ _ _ dX1_restore_19 nz_0 hR hS
    · have hf := ite_f c9 hf
      obtain ⟨yc9, hc9⟩ := Option.ne_none_iff_exists'.mp c9
      refine n_some hc9 ?_
      refine lv_ifnonnull (tgt := 20) hx hb dX1_restore_15 (by decide) ?_
      refine lv_aload_n hx hb dX1_restore_20 rfl (lv_at hl 0 rfl) ?_
      obtain ⟨x10, ex10, hf⟩ := lt_some hf
      refine g_getx hx hb hts hown hG hR gFx_X1_96_0 k3 dX1_restore_21 ?_
      rw [← ex10]
      refine lv_aload_n hx hb dX1_restore_24 rfl (lv_at hl 0 rfl) ?_
      refine g_getx hx hb hts hown hG hR gFx_X1_210_0 k3 dX1_restore_25 ?_
      rw [← ex4]
      refine lv_iload_n hx hb dX1_restore_28 rfl (lv_at hl 1 rfl) ?_
      try rw [ha5]
      obtain ⟨c11, hf⟩ := gdp_some hf
      refine g_aald (t := 3) hx hb hG hR kn6 (by decide) c11 dX1_restore_29 ?_
      rw [← ex8]
      obtain ⟨a12, ha12, hf⟩ := bind_s hf
      try rw [ha12]
      obtain ⟨a13, ha13, hf⟩ := bind_s hf
      try rw [ha13]
      obtain ⟨k14, hf⟩ := gdp_some hf
      obtain ⟨r15, hr15, hf⟩ := bind_s hf
      refine x0_gor (vx_runV (As := [.ref a13]) (rest := []) (b := a12) ⟨hx, hb, hml, hown, hts⟩ (m3_be_w l G K I J X A B Q n a12 a13 r15 hr15) ⟨callB_of 1 hts (lw_meth q1553) rfl rfl rfl (hts _ q107) (hts _ q1550) (by decide +kernel) ⟨Nat.le_of_ble_eq_true rfl, Nat.le_of_ble_eq_true rfl⟩, hts _ q1551, hts _ q1552⟩ (x_preV hG hR hW hS k14 rfl) rfl rfl hl.1 rfl (lv_room (Nat.le_of_ble_eq_true rfl)) dX1_restore_30 ⟨Nat.zero_le _, Nat.zero_le _⟩) hS (fun H locs hR hS => ?_)
      refine lv_iconst (v := 1) hx hb dX1_restore_33 li_1 ?_
      obtain rfl := some_i hf
      exact hend _ _ _ _ dX1_restore_34 nz_1 hR hS
noncomputable def w1_yard (zz : Nat) (adS : Nat → Nat) (o : Nat) (K : gK) (I : gI) (J : gJ) (X : gX) (A : gI) (B : gJ) (Q : gX) (n : Nat) : Option (Int32 × gK × gI × gJ × gX × gI × gJ × gX × Nat) :=
  gdp (∃ a, K a ≠ none) <|
  gdp (Sh K X o 0 rows0) <|
  (f1_taken (I 1 o) (I 2 o)).bind fun r1 =>
  lt ((ov I [(1, o, r1.1), (2, o, r1.2)])) fun Im3 =>
  gdp (K o = some (.inl 0)) <|
  lt (i_up Im3 12 o (0 : Int32)) fun Im5 =>
  gdp (freshz zz K n) <|
  gdp (0 + 4 ≤ 18 ∧ 0 + 155 ≤ 225) <|
  lt (bK K n KS_i4) fun Km8 =>
  lt (bm 0 Im5 n 4 LI_i4) fun Im9 =>
  lt (bm 0 J n 4 LJ_i4) fun Jm10 =>
  lt (bm none X n 4 (LX_i4 n)) fun Xm11 =>
  lt (ba z0 A n 4 LA_i4) fun Am12 =>
  lt (ba z1 B n 4 []) fun Bm13 =>
  lt (ba z2 Q n 4 []) fun Qm14 =>
  lt (n + 4) fun n15 =>
  lt (0 + 4) fun u16 =>
  lt (0 + 155) fun v17 =>
  gdp (Km8 o = some (.inl 0)) <|
  lt (Xm11 10 o) fun x19 =>
  (x19).bind fun a20 =>
  gdp (Km8 a20 = some (.inl 5)) <|
  gdp (u16 + 12 ≤ 18 ∧ v17 + 48 ≤ 225) <|
  (w7_read zz adS a20 n Km8 Im9 Jm10 Xm11 Am12 Bm13 Qm14 n15).bind fun r22 =>
  trs r22.1 (fun b25 =>
    gdp (r22.2.1 b25 = some (.inl 1)) <|
    gdp (r22.2.1 b25 = some (.inl 1)) <|
    lt (r22.2.2.1 106 b25) fun v28 =>
    gdp (r22.2.1 o = some (.inl 0)) <|
    lt (i_up r22.2.2.1 12 o v28) fun Im30 =>
    lt (Im30 107 b25) fun v31 =>
    lt ((-1 : Int32) - v31) fun v32 =>
    gdp ((u16 + 12) ≤ 18 ∧ (v17 + 48) ≤ 225) <|
    some (v32, r22.2.1, Im30, r22.2.2.2.1, r22.2.2.2.2.1, r22.2.2.2.2.2.1, r22.2.2.2.2.2.2.1, r22.2.2.2.2.2.2.2.1, r22.2.2.2.2.2.2.2.2)
    ) fun v24 =>
  gdp (r22.2.1 o = some (.inl 0)) <|
  lt (r22.2.2.2.2.1 9 o) fun x35 =>
  (x35).bind fun a36 =>
  gdp (r22.2.1 a36 = some (.inl 2)) <|
  lt (i_up r22.2.2.2.2.1 200 a36 (some n)) fun Xm38 =>
  lt (Xm38 9 o) fun x39 =>
  gdp (freshz zz r22.2.1 r22.2.2.2.2.2.2.2.2) <|
  gdp ((u16 + 12) + 2 ≤ 18 ∧ (v17 + 48) + 22 ≤ 225) <|
  lt (bK r22.2.1 r22.2.2.2.2.2.2.2.2 KS_i5) fun Km42 =>
  lt (bm 0 r22.2.2.1 r22.2.2.2.2.2.2.2.2 2 LI_i5) fun Im43 =>
  lt (bm 0 r22.2.2.2.1 r22.2.2.2.2.2.2.2.2 2 LJ_i5) fun Jm44 =>
  lt (bm none Xm38 r22.2.2.2.2.2.2.2.2 2 (LX_i5 r22.2.2.2.2.2.2.2.2)) fun Xm45 =>
  lt (ba z0 r22.2.2.2.2.2.1 r22.2.2.2.2.2.2.2.2 2 LA_i5) fun Am46 =>
  lt (ba z1 r22.2.2.2.2.2.2.1 r22.2.2.2.2.2.2.2.2 2 []) fun Bm47 =>
  lt (ba z2 r22.2.2.2.2.2.2.2.1 r22.2.2.2.2.2.2.2.2 2 []) fun Qm48 =>
  lt (r22.2.2.2.2.2.2.2.2 + 2) fun n49 =>
  lt ((u16 + 12) + 2) fun u50 =>
  lt ((v17 + 48) + 22) fun v51 =>
  (x39).bind fun a52 =>
  gdp (Km42 a52 = some (.inl 2)) <|
  lt (i_up Xm45 201 a52 (some r22.2.2.2.2.2.2.2.2)) fun Xm54 =>
  gdp (Km42 o = some (.inl 0)) <|
  lt (Xm54 9 o) fun x56 =>
  (x56).bind fun a57 =>
  gdp (Km42 a57 = some (.inl 2)) <|
  lt (i_up Xm54 202 a57 none) fun Xm59 =>
  gdp (u50 ≤ 18 ∧ v51 ≤ 225) <|
  some (v24, Km42, Im43, Jm44, Xm59, Am46, Bm47, Qm48, n49)
set_option maxHeartbeats 4000000 in
theorem m1_yard_w (l : Launch) (G : gG) (K : gK) (I : gI) (J : gJ) (X : gX) (A : gI) (B : gJ) (Q : gX) (n : Nat) (o : Nat) (out : Int32 × gK × gI × gJ × gX × gI × gJ × gX × Nat) (hf : w1_yard G.2.2 (aK G) o K I J X A B Q n = some out) : GMetH l yX1_yard cX1_yard 3 (some .int) [(17, 57, 58, 13)] (10) (218) G [.ref o] K I J X A B Q (.inr (some (.int out.1))) out.2.1 out.2.2.1 out.2.2.2.1 out.2.2.2.2.1 out.2.2.2.2.2.1 out.2.2.2.2.2.2.1 out.2.2.2.2.2.2.2.1 18 225 := by
  refine GMetH.of (y := yX1_yard) rfl (Nat.le_of_ble_eq_true rfl) (la := [(0, .ref o)]) rfl ?_
  intro p e s m below meth c ls hx hb hr hml hlocks hts hown hname ht hG hR hW hl
  have hown : s.vm.findClass RX1 = some m.cls := hown
  have hS : va_S (gA G) s.heap s.heap [] := va_S.rf
  have hz : (∃ a, K a ≠ none) → G.2.2 ≤ s.heap.size := fun ⟨a, h⟩ => Nat.le_of_lt (Nat.lt_of_le_of_lt (hR.ge h) (hR.lt h))
  have hend : ∀ (pc : Nat) (H : Heap) (locs : List Loc) (ls : Array Slot), decode cX1_yard pc = .ok (.ireturn, 1) → RS G out.2.1 out.2.2.1 out.2.2.2.1 out.2.2.2.2.1 out.2.2.2.2.2.1 out.2.2.2.2.2.2.1 out.2.2.2.2.2.2.2.1 H → va_S (gA G) s.heap H locs → W p l e ({ frames := 10, cells := 18, slots := 225, locals := 218 } : Room) s m ([.ref o] : List Value).toArray below meth c H locs 18 225 (vx_MQ below (xQ G (.inr (some (.int out.1))) out.2.1 out.2.2.1 out.2.2.2.1 out.2.2.2.2.1 out.2.2.2.2.2.1 out.2.2.2.2.2.2.1 out.2.2.2.2.2.2.2.1) (xX G (.inr (some (.int out.1))) out.2.1 out.2.2.1 out.2.2.2.1 out.2.2.2.2.1 out.2.2.2.2.2.1 out.2.2.2.2.2.2.1 out.2.2.2.2.2.2.2.1) ([.ref o] : List Value).toArray s 18 225 (gA G)) (F0 m pc ls [.int out.1]) := fun pc H locs ls hd hR hS => x_nret hx hb hr rfl hlocks hG hR hS rfl hd
  generalize vx_MQ below (xQ G (.inr (some (.int out.1))) out.2.1 out.2.2.1 out.2.2.2.1 out.2.2.2.2.1 out.2.2.2.2.2.1 out.2.2.2.2.2.2.1 out.2.2.2.2.2.2.2.1) (xX G (.inr (some (.int out.1))) out.2.1 out.2.2.1 out.2.2.2.1 out.2.2.2.2.1 out.2.2.2.2.2.1 out.2.2.2.2.2.2.1 out.2.2.2.2.2.2.2.1) ([.ref o] : List Value).toArray s 18 225 (gA G) = Z at hend ⊢
  generalize ([.ref o] : List Value).toArray = args at hts hend ⊢
  unfold w1_yard at hf
  obtain ⟨k0, hf⟩ := gdp_some hf
  refine lv_aload_n hx hb dX1_yard_0 rfl (lv_at hl 0 rfl) ?_
  obtain ⟨g2, hf⟩ := gdp_some hf
  obtain ⟨r1, hr1, hf⟩ := bind_s hf
  refine g0_cVv (rm := (0, 0)) (As := []) (rest := []) ⟨hx, hb, hml, hown, hts⟩ hG hR hS (m1_taken l G K I J X A B Q o g2 (I 1 o) (I 2 o) rfl rfl r1 hr1) ⟨callB_of 0 hts (lw_meth q832) rfl rfl rfl (hts _ q103) (hts _ q829) (by decide +kernel) ⟨Nat.le_of_ble_eq_true rfl, Nat.le_of_ble_eq_true rfl⟩, hts _ q831, hts _ qs2⟩ g2.1 rfl rfl hl.1 (Nat.le_of_ble_eq_true rfl) dX1_yard_1 ⟨Nat.zero_le _, Nat.zero_le _⟩ rfl (fun H locs hR hS => ?_)
  obtain ⟨Im3, eIm3, hf⟩ := lt_some hf
  rw [← eIm3] at hR
  refine lv_aload_n hx hb dX1_yard_4 rfl (lv_at hl 0 rfl) ?_
  refine lv_iconst (v := 0) hx hb dX1_yard_5 li_0 ?_
  obtain ⟨k4, hf⟩ := gdp_some hf
  refine g_puti (v := (0 : Int32)) hx hb hts hown hG hR hS gPi_X1_231_0 k4 dX1_yard_6 (fun H locs hR hS => ?_)
  obtain ⟨Im5, eIm5, hf⟩ := lt_some hf
  rw [← eIm5] at hR
  obtain ⟨c6, hf⟩ := gdp_some hf
  obtain ⟨c7, hf⟩ := gdp_some hf
  refine b_new (ci := 3) (T := TX4) (N := 15) hx hb hts in_X4 tyX4 tyX4_ok hown (hts _ q833) (hts _ q250) (hts _ q108) hG (BR.start (fz c6) hR) hS (hz k0) rfl (by decide) hdv_3 (by have := c7.1; show _ ≤ 18; (try dsimp only at this ⊢); omega) (by have := c7.2; show _ ≤ 225; (try dsimp only at this ⊢); omega) dX1_yard_9 (fun H hB hS => ?_)
  refine lv_dup hx hb dX1_yard_12 rfl ?_
  refine b_cIN (rm := (1, 12)) (As := []) (rest := [.ref n]) (mc := 3) (ms := 140) (ks2 := KS_i4) (li2 := LI_i4) (lj2 := LJ_i4) (lx2 := LX_i4 (n + 0)) (la2 := LA_i4) (lb2 := []) (lq2 := LQ_i4 G (n + 0)) ⟨hx, hb, hml, hown, hts⟩ hG hB hS rfl ⟨nofun, nofun, nofun, nofun, nofun, nofun⟩ (fun K I J X A B Q hF => i4 l G K I J X A B Q (n + 0) hF) ⟨va_cnB 0 hts (lw_meth q253) rfl rfl rfl (hG.2 _ q834 rfl) (hts _ q108) (by decide +kernel) ⟨Nat.le_of_ble_eq_true rfl, Nat.le_of_ble_eq_true rfl⟩, rfl, hts _ q252⟩ rfl hl.1 (Nat.le_of_ble_eq_true rfl) dX1_yard_13 ⟨(by have := c7.1; show _ ≤ 18; (try dsimp only at this ⊢); omega), (by have := c7.2; show _ ≤ 225; (try dsimp only at this ⊢); omega)⟩ rfl rfl (io_i4 G (n + 0)) rfl rfl rfl rfl rfl rfl rfl (fun H locs hB hS => ?_)
  have hR : RS G (bK K n KS_i4) (bm 0 Im5 n 4 LI_i4) (bm 0 J n 4 LJ_i4) (bm none X n 4 (LX_i4 n)) (ba z0 A n 4 LA_i4) (ba z1 B n 4 []) (ba z2 Q n 4 (LQ_i4 G n)) H := hB.2.2.2
  obtain ⟨Km8, eKm8, hf⟩ := lt_some hf
  obtain ⟨Im9, eIm9, hf⟩ := lt_some hf
  obtain ⟨Jm10, eJm10, hf⟩ := lt_some hf
  obtain ⟨Xm11, eXm11, hf⟩ := lt_some hf
  obtain ⟨Am12, eAm12, hf⟩ := lt_some hf
  obtain ⟨Bm13, eBm13, hf⟩ := lt_some hf
  obtain ⟨Qm14, eQm14, hf⟩ := lt_some hf
  have hR : RS G (bK K n KS_i4) Im9 Jm10 Xm11 Am12 Bm13 Qm14 H := hR.to eIm9.symm eJm10.symm eXm11.symm eAm12.symm eBm13.symm eQm14.symm
  rw [← eKm8] at hR
  obtain ⟨n15, en15, hf⟩ := lt_some hf
  obtain ⟨u16, eu16, hf⟩ := lt_some hf
  obtain ⟨v17, ev17, hf⟩ := lt_some hf
  refine W.widen (k := u16) (n := v17) (by (try dsimp only); omega) (by (try dsimp only); omega) ?_
  refine lv_astore_n (lv' := [(1, .ref n), (0, .ref o)]) hx hb dX1_yard_16 rfl hl (by decide) (by first | rfl | simp [va_rf_c]) (fun ls hl => ?_)
  refine lv_aload_n hx hb dX1_yard_17 rfl (lv_at hl 1 rfl) ?_
  obtain ⟨k18, hf⟩ := gdp_some hf
  obtain ⟨x19, ex19, hf⟩ := lt_some hf
  refine g_getx hx hb hts hown hG hR gFx_X1_105_0 k18 dX1_yard_18 ?_
  rw [← ex19]
  refine lv_aload_n hx hb dX1_yard_21 rfl (lv_at hl 0 rfl) ?_
  obtain ⟨a20, ha20, hf⟩ := bind_s hf
  try rw [ha20]
  obtain ⟨k21, hf⟩ := gdp_some hf
  obtain ⟨c23, hf⟩ := gdp_some hf
  obtain ⟨r22, hr22, hf⟩ := bind_s hf
  refine x_gosi (vx_runV (As := [.ref n]) (rest := []) (b := a20) ⟨hx, hb, hml, hown, hts⟩ (m7_read_w l G Km8 Im9 Jm10 Xm11 Am12 Bm13 Qm14 n15 a20 n r22 hr22) ⟨callB_of 1 hts (lw_meth q838) rfl rfl rfl (hts _ q111) (hts _ q835) (by decide +kernel) ⟨Nat.le_of_ble_eq_true rfl, Nat.le_of_ble_eq_true rfl⟩, hts _ q836, hts _ q837⟩ (x_preV hG hR hW hS k21 rfl) rfl rfl hl.1 rfl (lv_room (Nat.le_of_ble_eq_true rfl)) dX1_yard_22 ⟨c23.1, c23.2⟩) hS (fun b25 H locs hnv24 hR hS => ?_) (fun v24 H locs hvv24 hR hS => ?_)
  · have hf := trs_l hnv24 hf
    obtain ⟨k26, hf⟩ := gdp_some hf
    refine e_catch (ci := 1) hown ht hG hR k26 rfl (hts _ q143) (va_Nw.use rfl (hG.2 _ q145 rfl)) (by decide) (by decide) ?_
    refine lv_astore_n (lv' := [(2, .ref b25), (1, .ref n), (0, .ref o)]) hx hb dX1_yard_58 rfl hl (by decide) (by first | rfl | simp [va_rf_c]) (fun ls hl => ?_)
    refine lv_aload_n hx hb dX1_yard_59 rfl (lv_at hl 2 rfl) ?_
    refine lv_aload_n hx hb dX1_yard_60 rfl (lv_at hl 0 rfl) ?_
    obtain ⟨k27, hf⟩ := gdp_some hf
    obtain ⟨v28, ev28, hf⟩ := lt_some hf
    refine n_geti (v := v28) hx hb hts hown hG hR gFi_X1_256_1 k27 ev28.symm dX1_yard_61 ?_
    obtain ⟨k29, hf⟩ := gdp_some hf
    refine g_puti (v := v28) hx hb hts hown hG hR hS gPi_X1_231_0 k29 dX1_yard_64 (fun H locs hR hS => ?_)
    obtain ⟨Im30, eIm30, hf⟩ := lt_some hf
    rw [← eIm30] at hR
    refine lv_iconst (v := -1) hx hb dX1_yard_67 li_m1 ?_
    refine lv_aload_n hx hb dX1_yard_68 rfl (lv_at hl 0 rfl) ?_
    obtain ⟨v31, ev31, hf⟩ := lt_some hf
    refine n_geti (v := v31) hx hb hts hown hG hR gFi_X1_259_1 k27 ev31.symm dX1_yard_69 ?_
    obtain ⟨v32, ev32, hf⟩ := lt_some hf
    refine n_isub hx hb ev32 dX1_yard_72 ?_
    obtain ⟨c33, hf⟩ := gdp_some hf
    refine W.widen c33.1 c33.2 ?_
    obtain rfl := some_i hf
    exact hend _ _ _ _ dX1_yard_73 hR hS
  have hf := trs_r hvv24 hf
  refine lv_istore_n (lv' := [(2, .int v24), (1, .ref n), (0, .ref o)]) hx hb dX1_yard_25 rfl hl (by decide) rfl (fun ls hl => ?_)
  refine lv_aload_n hx hb dX1_yard_26 rfl (lv_at hl 2 rfl) ?_
  obtain ⟨k34, hf⟩ := gdp_some hf
  obtain ⟨x35, ex35, hf⟩ := lt_some hf
  refine g_getx hx hb hts hown hG hR gFx_X1_96_0 k34 dX1_yard_27 ?_
  rw [← ex35]
  refine lv_aload_n hx hb dX1_yard_30 rfl (lv_at hl 1 rfl) ?_
  obtain ⟨a36, ha36, hf⟩ := bind_s hf
  try rw [ha36]
  obtain ⟨k37, hf⟩ := gdp_some hf
  refine g_putx (v := (some n)) hx hb hts hown hG hR hS gPx_X1_241_2 k37 dX1_yard_31 (fun H locs hR hS => ?_)
  obtain ⟨Xm38, eXm38, hf⟩ := lt_some hf
  rw [← eXm38] at hR
  refine lv_aload_n hx hb dX1_yard_34 rfl (lv_at hl 2 rfl) ?_
  obtain ⟨x39, ex39, hf⟩ := lt_some hf
  refine g_getx hx hb hts hown hG hR gFx_X1_96_0 k34 dX1_yard_35 ?_
  rw [← ex39]
  obtain ⟨c40, hf⟩ := gdp_some hf
  obtain ⟨c41, hf⟩ := gdp_some hf
  refine b_new (ci := 4) (T := TX5) (N := 2) hx hb hts in_X5 tyX5 tyX5_ok hown (hts _ q1024) (hts _ q347) (hts _ q109) hG (BR.start (fz c40) hR) hS (hz k0) rfl (by decide) hdv_4 (by have := c41.1; show _ ≤ 18; (try dsimp only at this ⊢); omega) (by have := c41.2; show _ ≤ 225; (try dsimp only at this ⊢); omega) dX1_yard_38 (fun H hB hS => ?_)
  refine lv_dup hx hb dX1_yard_41 rfl ?_
  refine b_cIN (rm := (1, 12)) (As := []) (rest := [.ref r22.2.2.2.2.2.2.2.2, va_rf x39]) (mc := 1) (ms := 20) (ks2 := KS_i5) (li2 := LI_i5) (lj2 := LJ_i5) (lx2 := LX_i5 (r22.2.2.2.2.2.2.2.2 + 0)) (la2 := LA_i5) (lb2 := []) (lq2 := LQ_i5 G (r22.2.2.2.2.2.2.2.2 + 0)) ⟨hx, hb, hml, hown, hts⟩ hG hB hS rfl ⟨nofun, nofun, nofun, nofun, nofun, nofun⟩ (fun K I J X A B Q hF => i5 l G K I J X A B Q (r22.2.2.2.2.2.2.2.2 + 0) hF) ⟨va_cnB 0 hts (lw_meth q350) rfl rfl rfl (hG.2 _ q1025 rfl) (hts _ q109) (by decide +kernel) ⟨Nat.le_of_ble_eq_true rfl, Nat.le_of_ble_eq_true rfl⟩, rfl, hts _ q349⟩ rfl hl.1 (by simp [va_rf_c, cat_r, cat_i, cat_l, cat_n]) dX1_yard_42 ⟨(by have := c41.1; show _ ≤ 18; (try dsimp only at this ⊢); omega), (by have := c41.2; show _ ≤ 225; (try dsimp only at this ⊢); omega)⟩ rfl rfl (io_i5 G (r22.2.2.2.2.2.2.2.2 + 0)) rfl rfl rfl rfl rfl rfl rfl (fun H locs hB hS => ?_)
  have hR : RS G (bK r22.2.1 r22.2.2.2.2.2.2.2.2 KS_i5) (bm 0 r22.2.2.1 r22.2.2.2.2.2.2.2.2 2 LI_i5) (bm 0 r22.2.2.2.1 r22.2.2.2.2.2.2.2.2 2 LJ_i5) (bm none Xm38 r22.2.2.2.2.2.2.2.2 2 (LX_i5 r22.2.2.2.2.2.2.2.2)) (ba z0 r22.2.2.2.2.2.1 r22.2.2.2.2.2.2.2.2 2 LA_i5) (ba z1 r22.2.2.2.2.2.2.1 r22.2.2.2.2.2.2.2.2 2 []) (ba z2 r22.2.2.2.2.2.2.2.1 r22.2.2.2.2.2.2.2.2 2 (LQ_i5 G r22.2.2.2.2.2.2.2.2)) H := hB.2.2.2
  obtain ⟨Km42, eKm42, hf⟩ := lt_some hf
  obtain ⟨Im43, eIm43, hf⟩ := lt_some hf
  obtain ⟨Jm44, eJm44, hf⟩ := lt_some hf
  obtain ⟨Xm45, eXm45, hf⟩ := lt_some hf
  obtain ⟨Am46, eAm46, hf⟩ := lt_some hf
  obtain ⟨Bm47, eBm47, hf⟩ := lt_some hf
  obtain ⟨Qm48, eQm48, hf⟩ := lt_some hf
  have hR : RS G (bK r22.2.1 r22.2.2.2.2.2.2.2.2 KS_i5) Im43 Jm44 Xm45 Am46 Bm47 Qm48 H := hR.to eIm43.symm eJm44.symm eXm45.symm eAm46.symm eBm47.symm eQm48.symm
  rw [← eKm42] at hR
  obtain ⟨n49, en49, hf⟩ := lt_some hf
  obtain ⟨u50, eu50, hf⟩ := lt_some hf
  obtain ⟨v51, ev51, hf⟩ := lt_some hf
  refine W.widen (k := u50) (n := v51) (by (try dsimp only); omega) (by (try dsimp only); omega) ?_
  obtain ⟨a52, ha52, hf⟩ := bind_s hf
  try rw [ha52]
  obtain ⟨k53, hf⟩ := gdp_some hf
  refine g_putx (v := (some r22.2.2.2.2.2.2.2.2)) hx hb hts hown hG hR hS gPx_X1_248_2 k53 dX1_yard_45 (fun H locs hR hS => ?_)
  obtain ⟨Xm54, eXm54, hf⟩ := lt_some hf
  rw [← eXm54] at hR
  refine lv_aload_n hx hb dX1_yard_48 rfl (lv_at hl 2 rfl) ?_
  obtain ⟨k55, hf⟩ := gdp_some hf
  obtain ⟨x56, ex56, hf⟩ := lt_some hf
  refine g_getx hx hb hts hown hG hR gFx_X1_96_0 k55 dX1_yard_49 ?_
  rw [← ex56]
  refine lv_null hx hb dX1_yard_52 ?_
  obtain ⟨a57, ha57, hf⟩ := bind_s hf
  try rw [ha57]
  obtain ⟨k58, hf⟩ := gdp_some hf
  refine g_putx (v := none) hx hb hts hown hG hR hS gPx_X1_252_2 k58 dX1_yard_53 (fun H locs hR hS => ?_)
  obtain ⟨Xm59, eXm59, hf⟩ := lt_some hf
  rw [← eXm59] at hR
  refine lv_iload_n hx hb dX1_yard_56 rfl (lv_at hl 0 rfl) ?_
  obtain ⟨c60, hf⟩ := gdp_some hf
  refine W.widen c60.1 c60.2 ?_
  obtain rfl := some_i hf
  exact hend _ _ _ _ dX1_yard_57 hR hS
noncomputable def w1_plan (zz : Nat) (adS : Nat → Nat) (o : Nat) (K : gK) (I : gI) (J : gJ) (X : gX) (A : gI) (B : gJ) (Q : gX) (n : Nat) : Option (Int32 × gK × gI × gJ × gX × gI × gJ × gX × Nat) :=
  gdp (∃ a, K a ≠ none) <|
  gdp (Sh K X o 0 rows0) <|
  (f1_taken (I 1 o) (I 2 o)).bind fun r1 =>
  lt ((ov I [(1, o, r1.1), (2, o, r1.2)])) fun Im3 =>
  gdp (K o = some (.inl 0)) <|
  lt (i_up Im3 12 o (0 : Int32)) fun Im5 =>
  lt (X 9 o) fun x6 =>
  lt (X 11 o) fun x7 =>
  (x7).bind fun a8 =>
  gdp (K a8 = some (.inl 6)) <|
  gdp (0 + 42 ≤ 42 ∧ 0 + 362 ≤ 362) <|
  (w8_read zz adS a8 K Im5 J X A B Q n).bind fun r10 =>
  trs r10.1 (fun b13 =>
    gdp (r10.2.1 b13 = some (.inl 1)) <|
    gdp (r10.2.1 b13 = some (.inl 1)) <|
    lt (r10.2.2.1 106 b13) fun v16 =>
    gdp (r10.2.1 o = some (.inl 0)) <|
    lt (i_up r10.2.2.1 12 o v16) fun Im18 =>
    lt (Im18 107 b13) fun v19 =>
    lt ((-1 : Int32) - v19) fun v20 =>
    gdp ((0 + 42) ≤ 42 ∧ (0 + 362) ≤ 362) <|
    some (v20, r10.2.1, Im18, r10.2.2.2.1, r10.2.2.2.2.1, r10.2.2.2.2.2.1, r10.2.2.2.2.2.2.1, r10.2.2.2.2.2.2.2.1, r10.2.2.2.2.2.2.2.2)
    ) fun v12 =>
  (x6).bind fun a22 =>
  gdp (r10.2.1 a22 = some (.inl 2)) <|
  lt (i_up r10.2.2.2.2.1 201 a22 (some v12)) fun Xm24 =>
  gdp (r10.2.1 o = some (.inl 0)) <|
  lt (Xm24 9 o) fun x26 =>
  (x26).bind fun a27 =>
  gdp (r10.2.1 a27 = some (.inl 2)) <|
  lt (Xm24 201 a27) fun x29 =>
  (x29).bind fun a30 =>
  gdp (r10.2.1 a30 = some (.inl 4)) <|
  lt (r10.2.2.1 401 a30) fun v32 =>
  gdp ((0 + 42) ≤ 42 ∧ (0 + 362) ≤ 362) <|
  some (v32, r10.2.1, r10.2.2.1, r10.2.2.2.1, Xm24, r10.2.2.2.2.2.1, r10.2.2.2.2.2.2.1, r10.2.2.2.2.2.2.2.1, r10.2.2.2.2.2.2.2.2)
set_option maxHeartbeats 4000000 in
theorem m1_plan_w (l : Launch) (G : gG) (K : gK) (I : gI) (J : gJ) (X : gX) (A : gI) (B : gJ) (Q : gX) (n : Nat) (o : Nat) (out : Int32 × gK × gI × gJ × gX × gI × gJ × gX × Nat) (hf : w1_plan G.2.2 (aK G) o K I J X A B Q n = some out) : GMetH l yX1_plan cX1_plan 2 (some .int) [(9, 33, 34, 13)] (10) (217) G [.ref o] K I J X A B Q (.inr (some (.int out.1))) out.2.1 out.2.2.1 out.2.2.2.1 out.2.2.2.2.1 out.2.2.2.2.2.1 out.2.2.2.2.2.2.1 out.2.2.2.2.2.2.2.1 42 362 := by
  refine GMetH.of (y := yX1_plan) rfl (Nat.le_of_ble_eq_true rfl) (la := [(0, .ref o)]) rfl ?_
  intro p e s m below meth c ls hx hb hr hml hlocks hts hown hname ht hG hR hW hl
  have hown : s.vm.findClass RX1 = some m.cls := hown
  have hS : va_S (gA G) s.heap s.heap [] := va_S.rf
  have hz : (∃ a, K a ≠ none) → G.2.2 ≤ s.heap.size := fun ⟨a, h⟩ => Nat.le_of_lt (Nat.lt_of_le_of_lt (hR.ge h) (hR.lt h))
  have hend : ∀ (pc : Nat) (H : Heap) (locs : List Loc) (ls : Array Slot), decode cX1_plan pc = .ok (.ireturn, 1) → RS G out.2.1 out.2.2.1 out.2.2.2.1 out.2.2.2.2.1 out.2.2.2.2.2.1 out.2.2.2.2.2.2.1 out.2.2.2.2.2.2.2.1 H → va_S (gA G) s.heap H locs → W p l e ({ frames := 10, cells := 42, slots := 362, locals := 217 } : Room) s m ([.ref o] : List Value).toArray below meth c H locs 42 362 (vx_MQ below (xQ G (.inr (some (.int out.1))) out.2.1 out.2.2.1 out.2.2.2.1 out.2.2.2.2.1 out.2.2.2.2.2.1 out.2.2.2.2.2.2.1 out.2.2.2.2.2.2.2.1) (xX G (.inr (some (.int out.1))) out.2.1 out.2.2.1 out.2.2.2.1 out.2.2.2.2.1 out.2.2.2.2.2.1 out.2.2.2.2.2.2.1 out.2.2.2.2.2.2.2.1) ([.ref o] : List Value).toArray s 42 362 (gA G)) (F0 m pc ls [.int out.1]) := fun pc H locs ls hd hR hS => x_nret hx hb hr rfl hlocks hG hR hS rfl hd
  generalize vx_MQ below (xQ G (.inr (some (.int out.1))) out.2.1 out.2.2.1 out.2.2.2.1 out.2.2.2.2.1 out.2.2.2.2.2.1 out.2.2.2.2.2.2.1 out.2.2.2.2.2.2.2.1) (xX G (.inr (some (.int out.1))) out.2.1 out.2.2.1 out.2.2.2.1 out.2.2.2.2.1 out.2.2.2.2.2.1 out.2.2.2.2.2.2.1 out.2.2.2.2.2.2.2.1) ([.ref o] : List Value).toArray s 42 362 (gA G) = Z at hend ⊢
  generalize ([.ref o] : List Value).toArray = args at hts hend ⊢
  unfold w1_plan at hf
  obtain ⟨k0, hf⟩ := gdp_some hf
  refine lv_aload_n hx hb dX1_plan_0 rfl (lv_at hl 0 rfl) ?_
  obtain ⟨g2, hf⟩ := gdp_some hf
  obtain ⟨r1, hr1, hf⟩ := bind_s hf
  refine g0_cVv (rm := (0, 0)) (As := []) (rest := []) ⟨hx, hb, hml, hown, hts⟩ hG hR hS (m1_taken l G K I J X A B Q o g2 (I 1 o) (I 2 o) rfl rfl r1 hr1) ⟨callB_of 0 hts (lw_meth q832) rfl rfl rfl (hts _ q103) (hts _ q829) (by decide +kernel) ⟨Nat.le_of_ble_eq_true rfl, Nat.le_of_ble_eq_true rfl⟩, hts _ q831, hts _ qs2⟩ g2.1 rfl rfl hl.1 (Nat.le_of_ble_eq_true rfl) dX1_plan_1 ⟨Nat.zero_le _, Nat.zero_le _⟩ rfl (fun H locs hR hS => ?_)
  obtain ⟨Im3, eIm3, hf⟩ := lt_some hf
  rw [← eIm3] at hR
  refine lv_aload_n hx hb dX1_plan_4 rfl (lv_at hl 0 rfl) ?_
  refine lv_iconst (v := 0) hx hb dX1_plan_5 li_0 ?_
  obtain ⟨k4, hf⟩ := gdp_some hf
  refine g_puti (v := (0 : Int32)) hx hb hts hown hG hR hS gPi_X1_231_0 k4 dX1_plan_6 (fun H locs hR hS => ?_)
  obtain ⟨Im5, eIm5, hf⟩ := lt_some hf
  rw [← eIm5] at hR
  refine lv_aload_n hx hb dX1_plan_9 rfl (lv_at hl 0 rfl) ?_
  obtain ⟨x6, ex6, hf⟩ := lt_some hf
  refine g_getx hx hb hts hown hG hR gFx_X1_96_0 k4 dX1_plan_10 ?_
  rw [← ex6]
  refine lv_aload_n hx hb dX1_plan_13 rfl (lv_at hl 0 rfl) ?_
  obtain ⟨x7, ex7, hf⟩ := lt_some hf
  refine g_getx hx hb hts hown hG hR gFx_X1_112_0 k4 dX1_plan_14 ?_
  rw [← ex7]
  obtain ⟨a8, ha8, hf⟩ := bind_s hf
  try rw [ha8]
  obtain ⟨k9, hf⟩ := gdp_some hf
  obtain ⟨c11, hf⟩ := gdp_some hf
  obtain ⟨r10, hr10, hf⟩ := bind_s hf
  refine x_gosq (vx_runV (As := []) (rest := [va_rf x6]) (b := a8) ⟨hx, hb, hml, hown, hts⟩ (m8_read_w l G K Im5 J X A B Q n a8 r10 hr10) ⟨callB_of 0 hts (lw_meth q1037) rfl rfl rfl (hts _ q112) (hts _ q1034) (by decide +kernel) ⟨Nat.le_of_ble_eq_true rfl, Nat.le_of_ble_eq_true rfl⟩, hts _ q1035, hts _ q1036⟩ (x_preV hG hR hW hS k9 rfl) rfl rfl hl.1 rfl (lv_room (by simp [va_rf_c, cat_r, cat_i, cat_l, cat_n])) dX1_plan_17 ⟨c11.1, c11.2⟩) hS (fun b13 H locs hnv12 hR hS => ?_) (fun v12 H locs hvv12 hR hS => ?_)
  · have hf := trs_l hnv12 hf
    obtain ⟨k14, hf⟩ := gdp_some hf
    refine e_catch (ci := 1) hown ht hG hR k14 rfl (hts _ q143) (va_Nw.use rfl (hG.2 _ q145 rfl)) (by decide) (by decide) ?_
    refine lv_astore_n (lv' := [(1, .ref b13), (0, .ref o)]) hx hb dX1_plan_34 rfl hl (by decide) (by first | rfl | simp [va_rf_c]) (fun ls hl => ?_)
    refine lv_aload_n hx hb dX1_plan_35 rfl (lv_at hl 1 rfl) ?_
    refine lv_aload_n hx hb dX1_plan_36 rfl (lv_at hl 0 rfl) ?_
    obtain ⟨k15, hf⟩ := gdp_some hf
    obtain ⟨v16, ev16, hf⟩ := lt_some hf
    refine n_geti (v := v16) hx hb hts hown hG hR gFi_X1_256_1 k15 ev16.symm dX1_plan_37 ?_
    obtain ⟨k17, hf⟩ := gdp_some hf
    refine g_puti (v := v16) hx hb hts hown hG hR hS gPi_X1_231_0 k17 dX1_plan_40 (fun H locs hR hS => ?_)
    obtain ⟨Im18, eIm18, hf⟩ := lt_some hf
    rw [← eIm18] at hR
    refine lv_iconst (v := -1) hx hb dX1_plan_43 li_m1 ?_
    refine lv_aload_n hx hb dX1_plan_44 rfl (lv_at hl 0 rfl) ?_
    obtain ⟨v19, ev19, hf⟩ := lt_some hf
    refine n_geti (v := v19) hx hb hts hown hG hR gFi_X1_259_1 k15 ev19.symm dX1_plan_45 ?_
    obtain ⟨v20, ev20, hf⟩ := lt_some hf
    refine n_isub hx hb ev20 dX1_plan_48 ?_
    obtain ⟨c21, hf⟩ := gdp_some hf
    refine W.widen c21.1 c21.2 ?_
    obtain rfl := some_i hf
    exact hend _ _ _ _ dX1_plan_49 hR hS
  have hf := trs_r hvv12 hf
  obtain ⟨a22, ha22, hf⟩ := bind_s hf
  try rw [ha22]
  obtain ⟨k23, hf⟩ := gdp_some hf
  refine g_putx (v := (some v12)) hx hb hts hown hG hR hS gPx_X1_248_2 k23 dX1_plan_20 (fun H locs hR hS => ?_)
  obtain ⟨Xm24, eXm24, hf⟩ := lt_some hf
  rw [← eXm24] at hR
  refine lv_aload_n hx hb dX1_plan_23 rfl (lv_at hl 0 rfl) ?_
  obtain ⟨k25, hf⟩ := gdp_some hf
  obtain ⟨x26, ex26, hf⟩ := lt_some hf
  refine g_getx hx hb hts hown hG hR gFx_X1_96_0 k25 dX1_plan_24 ?_
  rw [← ex26]
  obtain ⟨a27, ha27, hf⟩ := bind_s hf
  try rw [ha27]
  obtain ⟨k28, hf⟩ := gdp_some hf
  obtain ⟨x29, ex29, hf⟩ := lt_some hf
  refine g_getx hx hb hts hown hG hR gFx_X1_248_2 k28 dX1_plan_27 ?_
  rw [← ex29]
  obtain ⟨a30, ha30, hf⟩ := bind_s hf
  try rw [ha30]
  obtain ⟨k31, hf⟩ := gdp_some hf
  obtain ⟨v32, ev32, hf⟩ := lt_some hf
  refine n_geti (v := v32) hx hb hts hown hG hR gFi_X1_265_4 k31 ev32.symm dX1_plan_30 ?_
  obtain ⟨c33, hf⟩ := gdp_some hf
  refine W.widen c33.1 c33.2 ?_
  obtain rfl := some_i hf
  exact hend _ _ _ _ dX1_plan_33 hR hS
noncomputable def w1_sentence (zz : Nat) (adS : Nat → Nat) (o : Nat) (K : gK) (I : gI) (J : gJ) (X : gX) (A : gI) (B : gJ) (Q : gX) (n : Nat) : Option (Int32 × gK × gI × gJ × gX × gI × gJ × gX × Nat) :=
  gdp (∃ a, K a ≠ none) <|
  gdp (Sh K X o 0 rows0) <|
  (f1_taken (I 1 o) (I 2 o)).bind fun r1 =>
  lt ((ov I [(1, o, r1.1), (2, o, r1.2)])) fun Im3 =>
  gdp (K o = some (.inl 0)) <|
  lt (i_up Im3 12 o (0 : Int32)) fun Im5 =>
  lt (X 9 o) fun x6 =>
  lt (X 50 o) fun x7 =>
  (x7).bind fun a8 =>
  gdp (K a8 = some (.inl 10)) <|
  gdp (0 + 39 ≤ 39 ∧ 0 + 117 ≤ 117) <|
  (w13_read zz adS a8 K Im5 J X A B Q n).bind fun r10 =>
  trs r10.1 (fun b13 =>
    gdp (r10.2.1 b13 = some (.inl 1)) <|
    gdp (r10.2.1 b13 = some (.inl 1)) <|
    lt (r10.2.2.1 106 b13) fun v16 =>
    gdp (r10.2.1 o = some (.inl 0)) <|
    lt (i_up r10.2.2.1 12 o v16) fun Im18 =>
    lt (Im18 107 b13) fun v19 =>
    lt ((-1 : Int32) - v19) fun v20 =>
    gdp ((0 + 39) ≤ 39 ∧ (0 + 117) ≤ 117) <|
    some (v20, r10.2.1, Im18, r10.2.2.2.1, r10.2.2.2.2.1, r10.2.2.2.2.2.1, r10.2.2.2.2.2.2.1, r10.2.2.2.2.2.2.2.1, r10.2.2.2.2.2.2.2.2)
    ) fun v12 =>
  (x6).bind fun a22 =>
  gdp (r10.2.1 a22 = some (.inl 2)) <|
  lt (i_up r10.2.2.2.2.1 202 a22 (some v12)) fun Xm24 =>
  gdp (r10.2.1 o = some (.inl 0)) <|
  lt (Xm24 50 o) fun x26 =>
  (x26).bind fun a27 =>
  gdp (r10.2.1 a27 = some (.inl 10)) <|
  lt (r10.2.2.1 1009 a27) fun v29 =>
  gdp ((0 + 39) ≤ 39 ∧ (0 + 117) ≤ 117) <|
  some (v29, r10.2.1, r10.2.2.1, r10.2.2.2.1, Xm24, r10.2.2.2.2.2.1, r10.2.2.2.2.2.2.1, r10.2.2.2.2.2.2.2.1, r10.2.2.2.2.2.2.2.2)
set_option maxHeartbeats 4000000 in
theorem m1_sentence_w (l : Launch) (G : gG) (K : gK) (I : gI) (J : gJ) (X : gX) (A : gI) (B : gJ) (Q : gX) (n : Nat) (o : Nat) (out : Int32 × gK × gI × gJ × gX × gI × gJ × gX × Nat) (hf : w1_sentence G.2.2 (aK G) o K I J X A B Q n = some out) : GMetH l yX1_sentence cX1_sentence 2 (some .int) [(9, 30, 31, 13)] (38) (922) G [.ref o] K I J X A B Q (.inr (some (.int out.1))) out.2.1 out.2.2.1 out.2.2.2.1 out.2.2.2.2.1 out.2.2.2.2.2.1 out.2.2.2.2.2.2.1 out.2.2.2.2.2.2.2.1 39 117 := by
  refine GMetH.of (y := yX1_sentence) rfl (Nat.le_of_ble_eq_true rfl) (la := [(0, .ref o)]) rfl ?_
  intro p e s m below meth c ls hx hb hr hml hlocks hts hown hname ht hG hR hW hl
  have hown : s.vm.findClass RX1 = some m.cls := hown
  have hS : va_S (gA G) s.heap s.heap [] := va_S.rf
  have hz : (∃ a, K a ≠ none) → G.2.2 ≤ s.heap.size := fun ⟨a, h⟩ => Nat.le_of_lt (Nat.lt_of_le_of_lt (hR.ge h) (hR.lt h))
  have hend : ∀ (pc : Nat) (H : Heap) (locs : List Loc) (ls : Array Slot), decode cX1_sentence pc = .ok (.ireturn, 1) → RS G out.2.1 out.2.2.1 out.2.2.2.1 out.2.2.2.2.1 out.2.2.2.2.2.1 out.2.2.2.2.2.2.1 out.2.2.2.2.2.2.2.1 H → va_S (gA G) s.heap H locs → W p l e ({ frames := 38, cells := 39, slots := 117, locals := 922 } : Room) s m ([.ref o] : List Value).toArray below meth c H locs 39 117 (vx_MQ below (xQ G (.inr (some (.int out.1))) out.2.1 out.2.2.1 out.2.2.2.1 out.2.2.2.2.1 out.2.2.2.2.2.1 out.2.2.2.2.2.2.1 out.2.2.2.2.2.2.2.1) (xX G (.inr (some (.int out.1))) out.2.1 out.2.2.1 out.2.2.2.1 out.2.2.2.2.1 out.2.2.2.2.2.1 out.2.2.2.2.2.2.1 out.2.2.2.2.2.2.2.1) ([.ref o] : List Value).toArray s 39 117 (gA G)) (F0 m pc ls [.int out.1]) := fun pc H locs ls hd hR hS => x_nret hx hb hr rfl hlocks hG hR hS rfl hd
  generalize vx_MQ below (xQ G (.inr (some (.int out.1))) out.2.1 out.2.2.1 out.2.2.2.1 out.2.2.2.2.1 out.2.2.2.2.2.1 out.2.2.2.2.2.2.1 out.2.2.2.2.2.2.2.1) (xX G (.inr (some (.int out.1))) out.2.1 out.2.2.1 out.2.2.2.1 out.2.2.2.2.1 out.2.2.2.2.2.1 out.2.2.2.2.2.2.1 out.2.2.2.2.2.2.2.1) ([.ref o] : List Value).toArray s 39 117 (gA G) = Z at hend ⊢
  generalize ([.ref o] : List Value).toArray = args at hts hend ⊢
  unfold w1_sentence at hf
  obtain ⟨k0, hf⟩ := gdp_some hf
  refine lv_aload_n hx hb dX1_sentence_0 rfl (lv_at hl 0 rfl) ?_
  obtain ⟨g2, hf⟩ := gdp_some hf
  obtain ⟨r1, hr1, hf⟩ := bind_s hf
  refine g0_cVv (rm := (0, 0)) (As := []) (rest := []) ⟨hx, hb, hml, hown, hts⟩ hG hR hS (m1_taken l G K I J X A B Q o g2 (I 1 o) (I 2 o) rfl rfl r1 hr1) ⟨callB_of 0 hts (lw_meth q832) rfl rfl rfl (hts _ q103) (hts _ q829) (by decide +kernel) ⟨Nat.le_of_ble_eq_true rfl, Nat.le_of_ble_eq_true rfl⟩, hts _ q831, hts _ qs2⟩ g2.1 rfl rfl hl.1 (Nat.le_of_ble_eq_true rfl) dX1_sentence_1 ⟨Nat.zero_le _, Nat.zero_le _⟩ rfl (fun H locs hR hS => ?_)
  obtain ⟨Im3, eIm3, hf⟩ := lt_some hf
  rw [← eIm3] at hR
  refine lv_aload_n hx hb dX1_sentence_4 rfl (lv_at hl 0 rfl) ?_
  refine lv_iconst (v := 0) hx hb dX1_sentence_5 li_0 ?_
  obtain ⟨k4, hf⟩ := gdp_some hf
  refine g_puti (v := (0 : Int32)) hx hb hts hown hG hR hS gPi_X1_231_0 k4 dX1_sentence_6 (fun H locs hR hS => ?_)
  obtain ⟨Im5, eIm5, hf⟩ := lt_some hf
  rw [← eIm5] at hR
  refine lv_aload_n hx hb dX1_sentence_9 rfl (lv_at hl 0 rfl) ?_
  obtain ⟨x6, ex6, hf⟩ := lt_some hf
  refine g_getx hx hb hts hown hG hR gFx_X1_96_0 k4 dX1_sentence_10 ?_
  rw [← ex6]
  refine lv_aload_n hx hb dX1_sentence_13 rfl (lv_at hl 0 rfl) ?_
  obtain ⟨x7, ex7, hf⟩ := lt_some hf
  refine g_getx hx hb hts hown hG hR gFx_X1_206_0 k4 dX1_sentence_14 ?_
  rw [← ex7]
  obtain ⟨a8, ha8, hf⟩ := bind_s hf
  try rw [ha8]
  obtain ⟨k9, hf⟩ := gdp_some hf
  obtain ⟨c11, hf⟩ := gdp_some hf
  obtain ⟨r10, hr10, hf⟩ := bind_s hf
  refine x_gosq (vx_runV (As := []) (rest := [va_rf x6]) (b := a8) ⟨hx, hb, hml, hown, hts⟩ (m13_read_w l G K Im5 J X A B Q n a8 r10 hr10) ⟨callB_of 0 hts (lw_meth q1412) rfl rfl rfl (hts _ q117) (hts _ q1409) (by decide +kernel) ⟨Nat.le_of_ble_eq_true rfl, Nat.le_of_ble_eq_true rfl⟩, hts _ q1410, hts _ q1411⟩ (x_preV hG hR hW hS k9 rfl) rfl rfl hl.1 rfl (lv_room (by simp [va_rf_c, cat_r, cat_i, cat_l, cat_n])) dX1_sentence_17 ⟨c11.1, c11.2⟩) hS (fun b13 H locs hnv12 hR hS => ?_) (fun v12 H locs hvv12 hR hS => ?_)
  · have hf := trs_l hnv12 hf
    obtain ⟨k14, hf⟩ := gdp_some hf
    refine e_catch (ci := 1) hown ht hG hR k14 rfl (hts _ q143) (va_Nw.use rfl (hG.2 _ q145 rfl)) (by decide) (by decide) ?_
    refine lv_astore_n (lv' := [(1, .ref b13), (0, .ref o)]) hx hb dX1_sentence_31 rfl hl (by decide) (by first | rfl | simp [va_rf_c]) (fun ls hl => ?_)
    refine lv_aload_n hx hb dX1_sentence_32 rfl (lv_at hl 1 rfl) ?_
    refine lv_aload_n hx hb dX1_sentence_33 rfl (lv_at hl 0 rfl) ?_
    obtain ⟨k15, hf⟩ := gdp_some hf
    obtain ⟨v16, ev16, hf⟩ := lt_some hf
    refine n_geti (v := v16) hx hb hts hown hG hR gFi_X1_256_1 k15 ev16.symm dX1_sentence_34 ?_
    obtain ⟨k17, hf⟩ := gdp_some hf
    refine g_puti (v := v16) hx hb hts hown hG hR hS gPi_X1_231_0 k17 dX1_sentence_37 (fun H locs hR hS => ?_)
    obtain ⟨Im18, eIm18, hf⟩ := lt_some hf
    rw [← eIm18] at hR
    refine lv_iconst (v := -1) hx hb dX1_sentence_40 li_m1 ?_
    refine lv_aload_n hx hb dX1_sentence_41 rfl (lv_at hl 0 rfl) ?_
    obtain ⟨v19, ev19, hf⟩ := lt_some hf
    refine n_geti (v := v19) hx hb hts hown hG hR gFi_X1_259_1 k15 ev19.symm dX1_sentence_42 ?_
    obtain ⟨v20, ev20, hf⟩ := lt_some hf
    refine n_isub hx hb ev20 dX1_sentence_45 ?_
    obtain ⟨c21, hf⟩ := gdp_some hf
    refine W.widen c21.1 c21.2 ?_
    obtain rfl := some_i hf
    exact hend _ _ _ _ dX1_sentence_46 hR hS
  have hf := trs_r hvv12 hf
  obtain ⟨a22, ha22, hf⟩ := bind_s hf
  try rw [ha22]
  obtain ⟨k23, hf⟩ := gdp_some hf
  refine g_putx (v := (some v12)) hx hb hts hown hG hR hS gPx_X1_252_2 k23 dX1_sentence_20 (fun H locs hR hS => ?_)
  obtain ⟨Xm24, eXm24, hf⟩ := lt_some hf
  rw [← eXm24] at hR
  refine lv_aload_n hx hb dX1_sentence_23 rfl (lv_at hl 0 rfl) ?_
  obtain ⟨k25, hf⟩ := gdp_some hf
  obtain ⟨x26, ex26, hf⟩ := lt_some hf
  refine g_getx hx hb hts hown hG hR gFx_X1_206_0 k25 dX1_sentence_24 ?_
  rw [← ex26]
  obtain ⟨a27, ha27, hf⟩ := bind_s hf
  try rw [ha27]
  obtain ⟨k28, hf⟩ := gdp_some hf
  obtain ⟨v29, ev29, hf⟩ := lt_some hf
  refine n_geti (v := v29) hx hb hts hown hG hR gFi_X1_517_10 k28 ev29.symm dX1_sentence_27 ?_
  obtain ⟨c30, hf⟩ := gdp_some hf
  refine W.widen c30.1 c30.2 ?_
  obtain rfl := some_i hf
  exact hend _ _ _ _ dX1_sentence_30 hR hS
noncomputable def w1_fire_e33_0 (o : Nat) (x33_0 : gK × gI × gJ × gX × gI × gJ × gX × Nat × Nat × Nat) : Option (Int32 × gK × gI × gJ × gX × gI × gJ × gX × Nat) :=
  gdp (x33_0.1 o = some (.inl 0)) <|
  lt (x33_0.2.2.2.1 35 o) fun x35 =>
  (x35).bind fun a36 =>
  gdp (x33_0.1 a36 = some (.inl 9)) <|
  lt (x33_0.2.1 905 a36) fun v38 =>
  gdp (x33_0.2.2.2.2.2.2.2.2.1 ≤ 105 ∧ x33_0.2.2.2.2.2.2.2.2.2 ≤ 5502) <|
  some (v38, x33_0.1, x33_0.2.1, x33_0.2.2.1, x33_0.2.2.2.1, x33_0.2.2.2.2.1, x33_0.2.2.2.2.2.1, x33_0.2.2.2.2.2.2.1, x33_0.2.2.2.2.2.2.2.1)

noncomputable def w1_fire_j193 (w33_5 : Int32) (j121_K : gK) (j121_n : Nat) (j121_u : Nat) (j121_v : Nat) (j193_I : gI) (j193_J : gJ) (j193_X : gX) (j193_A : gI) (j193_B : gJ) (j193_Q : gX) : Option ((Int32 × gK × gI × gJ × gX × gI × gJ × gX × Nat × Nat × Nat) ⊕ (gK × gI × gJ × gX × gI × gJ × gX × Nat × Nat × Nat)) :=
  lt (w33_5 + (1 : Int32)) fun v94 =>
  some (.inl (v94, j121_K, j193_I, j193_J, j193_X, j193_A, j193_B, j193_Q, j121_n, j121_u, j121_v))

noncomputable def w1_fire_j121 (o : Nat) (p2 : Int32) (p3 : Int32) (p4 : Int32) (w33_5 : Int32) (j121_K : gK) (j121_I : gI) (j121_J : gJ) (j121_X : gX) (j121_A : gI) (j121_B : gJ) (j121_Q : gX) (j121_n : Nat) (j121_u : Nat) (j121_v : Nat) : Option ((Int32 × gK × gI × gJ × gX × gI × gJ × gX × Nat × Nat × Nat) ⊕ (gK × gI × gJ × gX × gI × gJ × gX × Nat × Nat × Nat)) :=
  gdp (j121_K o = some (.inl 0)) <|
  lt (j121_X 37 o) fun x50 =>
  gd (¬ (21 : Int32) = 0) <|
  lt (w33_5 - w33_5 / (21 : Int32) * (21 : Int32)) fun v51 =>
  (x50).bind fun a53 =>
  (alen j121_K a53 6).bind fun n54 =>
  gdp (inb v51 n54) <|
  lt (j121_Q a53 v51.toNatClampNeg) fun x56 =>
  lt (j121_X 35 o) fun x57 =>
  (x56).bind fun a58 =>
  (x57).bind fun a59 =>
  gdp (j121_u ≤ 105 ∧ j121_v ≤ 5502) <|
  (j121_X 904 a59).bind fun a62 =>
  gdp (Sh j121_K j121_X a58 9 rows9) <|
  gdp (Sh j121_K j121_X a59 9 rows9) <|
  gdp (Sh j121_K j121_X a62 3 rows3) <|
  gdp (a58 + 4 < a59 ∨ a59 + 4 < a58) <|
  (f12_be (j121_I 905 a59) (j121_I 905 a58) (j121_A (a59 + 1)) (j121_A (a59 + 2)) (j121_A (a59 + 4)) (j121_A (a58 + 1)) (j121_A (a58 + 2)) (j121_A (a58 + 4))).bind fun r60 =>
  lt ((ov j121_I [(905, a58, r60.1)])) fun Im67 =>
  lt ((ov j121_X [(904, a58, (some a62))])) fun Xm68 =>
  lt ((ova j121_A [((a59 + 1), (j121_A (a59 + 1))), ((a59 + 2), (j121_A (a59 + 2))), ((a59 + 4), (j121_A (a59 + 4))), ((a58 + 1), r60.2.1), ((a58 + 2), r60.2.2.1), ((a58 + 4), r60.2.2.2)])) fun Am69 =>
  lt (Xm68 35 o) fun x70 =>
  lt (Xm68 37 o) fun x71 =>
  lt (w33_5 - p4) fun v72 =>
  lt (if (0 : Int32) < v72 then v72 else (0 : Int32)) fun v73 =>
  gd (¬ (21 : Int32) = 0) <|
  lt (v73 - v73 / (21 : Int32) * (21 : Int32)) fun v74 =>
  (x71).bind fun a76 =>
  (alen j121_K a76 6).bind fun n77 =>
  gdp (inb v74 n77) <|
  lt (j121_Q a76 v74.toNatClampNeg) fun x79 =>
  (x79).bind fun a80 =>
  (Xm68 904 a80).bind fun a82 =>
  gdp (Sh j121_K Xm68 a80 9 rows9) <|
  gdp (Sh j121_K Xm68 a82 3 rows3) <|
  (f12_aimed p3 (Im67 304 a82) (Im67 305 a82) (Im67 314 a82) (Am69 (a80 + 1)) (Am69 (a80 + 3)) (Am69 (a80 + 4))).bind fun r81 =>
  lt ((ova Am69 [((a80 + 1), (Am69 (a80 + 1))), ((a80 + 3), r81.2), ((a80 + 4), (Am69 (a80 + 4)))])) fun Am85 =>
  (x70).bind fun a86 =>
  (Xm68 904 a86).bind fun a88 =>
  gdp (Sh j121_K Xm68 a86 9 rows9) <|
  gdp (Sh j121_K Xm68 a88 3 rows3) <|
  (f12_minute r81.1 p2 (Im67 304 a88) (Im67 305 a88) (Im67 314 a88) (Im67 905 a86) (Am85 (a86 + 1)) (Am85 (a86 + 2)) (Am85 (a86 + 3)) (Am85 (a86 + 4))).bind fun r87 =>
  lt ((ov Im67 [(905, a86, r87.1)])) fun Im91 =>
  lt ((ova Am85 [((a86 + 1), r87.2.1), ((a86 + 2), r87.2.2.1), ((a86 + 3), r87.2.2.2.1), ((a86 + 4), r87.2.2.2.2)])) fun Am92 =>
  lt (Im91 39 o) fun v93 =>
  if v93 = (-1 : Int32) then
    (f12_burning (Am92 (a86 + 4))).bind fun r96 =>
    if r96 = 0 then
      lt (w33_5 + (1 : Int32)) fun v98 =>
      lt (i_up Im91 39 o v98) fun Im99 =>
      w1_fire_j193 w33_5 j121_K j121_n j121_u j121_v Im99 j121_J Xm68 Am92 j121_B j121_Q
    else
      w1_fire_j193 w33_5 j121_K j121_n j121_u j121_v Im91 j121_J Xm68 Am92 j121_B j121_Q
  else
    w1_fire_j193 w33_5 j121_K j121_n j121_u j121_v Im91 j121_J Xm68 Am92 j121_B j121_Q

noncomputable def w1_fire_s33 (zz : Nat) (o : Nat) (p1 : Int32) (p2 : Int32) (p3 : Int32) (p4 : Int32) (w33_5 : Int32) (w33_K : gK) (w33_I : gI) (w33_J : gJ) (w33_X : gX) (w33_A : gI) (w33_B : gJ) (w33_Q : gX) (w33_n : Nat) (w33_u : Nat) (w33_v : Nat) : Option ((Int32 × gK × gI × gJ × gX × gI × gJ × gX × Nat × Nat × Nat) ⊕ (gK × gI × gJ × gX × gI × gJ × gX × Nat × Nat × Nat)) :=
  if p1 ≤ w33_5 then
    some (.inr (w33_K, w33_I, w33_J, w33_X, w33_A, w33_B, w33_Q, w33_n, w33_u, w33_v))
  else
    gdp (w33_K o = some (.inl 0)) <|
    lt (w33_X 37 o) fun x42 =>
    gd (¬ (21 : Int32) = 0) <|
    lt (w33_5 - w33_5 / (21 : Int32) * (21 : Int32)) fun v43 =>
    (x42).bind fun a45 =>
    (alen w33_K a45 6).bind fun n46 =>
    gdp (inb v43 n46) <|
    lt (w33_Q a45 v43.toNatClampNeg) fun x48 =>
    if x48 = none then
      gd (¬ (21 : Int32) = 0) <|
      lt (w33_5 - w33_5 / (21 : Int32) * (21 : Int32)) fun v101 =>
      gdp (freshz zz w33_K w33_n) <|
      gdp (w33_u + 5 ≤ 105 ∧ w33_v + 262 ≤ 5502) <|
      lt (bK w33_K w33_n KS_i12) fun Km105 =>
      lt (bm 0 w33_I w33_n 5 LI_i12) fun Im106 =>
      lt (bm 0 w33_J w33_n 5 LJ_i12) fun Jm107 =>
      lt (bm none w33_X w33_n 5 (LX_i12 w33_n)) fun Xm108 =>
      lt (ba z0 w33_A w33_n 5 LA_i12) fun Am109 =>
      lt (ba z1 w33_B w33_n 5 []) fun Bm110 =>
      lt (ba z2 w33_Q w33_n 5 []) fun Qm111 =>
      lt (w33_n + 5) fun n112 =>
      lt (w33_u + 5) fun u113 =>
      lt (w33_v + 262) fun v114 =>
      gdp (Km105 w33_n = some (.inl 9)) <|
      (alen Km105 a45 6).bind fun n116 =>
      gdp (inb v101 n116) <|
      lt (a_up Qm111 a45 (va_up (Qm111 a45) v101.toNatClampNeg (some w33_n))) fun Qm118 =>
      w1_fire_j121 o p2 p3 p4 w33_5 Km105 Im106 Jm107 Xm108 Am109 Bm110 Qm118 n112 u113 v114
    else
      w1_fire_j121 o p2 p3 p4 w33_5 w33_K w33_I w33_J w33_X w33_A w33_B w33_Q w33_n w33_u w33_v

noncomputable def w1_fire_j79 (zz : Nat) (o : Nat) (p1 : Int32) (p2 : Int32) (p3 : Int32) (p4 : Int32) (K : gK) (J : gJ) (B : gJ) (Q : gX) (n : Nat) (Xm25 : gX) (Am26 : gI) (Im27 : gI) (j79_s0 : Int32) : Option (Int32 × gK × gI × gJ × gX × gI × gJ × gX × Nat) :=
  lt (i_up Im27 39 o j79_s0) fun Im32 =>
  (whl (fun (s33 : Int32 × gK × gI × gJ × gX × gI × gJ × gX × Nat × Nat × Nat) => w1_fire_s33 zz o p1 p2 p3 p4 s33.1 s33.2.1 s33.2.2.1 s33.2.2.2.1 s33.2.2.2.2.1 s33.2.2.2.2.2.1 s33.2.2.2.2.2.2.1 s33.2.2.2.2.2.2.2.1 s33.2.2.2.2.2.2.2.2.1 s33.2.2.2.2.2.2.2.2.2.1 s33.2.2.2.2.2.2.2.2.2.2) FU ((0 : Int32), K, Im32, J, Xm25, Am26, B, Q, n, 0, 0)).bind fun rl33 =>
  w1_fire_e33_0 o rl33

noncomputable def w1_fire (zz : Nat) (adS : Nat → Nat) (o : Nat) (p1 : Int32) (p2 : Int32) (p3 : Int32) (p4 : Int32) (K : gK) (I : gI) (J : gJ) (X : gX) (A : gI) (B : gJ) (Q : gX) (n : Nat) : Option (Int32 × gK × gI × gJ × gX × gI × gJ × gX × Nat) :=
  gdp (∃ a, K a ≠ none) <|
  (f1_isIn p1 (0 : Int32) (60 : Int32)).bind fun r1 =>
  if r1 = 0 then
    gdp (0 ≤ 105 ∧ 0 ≤ 5502) <|
    some ((-1 : Int32), K, I, J, X, A, B, Q, n)
  else
    (f1_areLitres p2).bind fun r4 =>
    if r4 = 0 then
      gdp (0 ≤ 105 ∧ 0 ≤ 5502) <|
      some ((-1 : Int32), K, I, J, X, A, B, Q, n)
    else
      gdp (K o = some (.inl 0)) <|
      lt (X 9 o) fun x8 =>
      (x8).bind fun a9 =>
      gdp (K a9 = some (.inl 2)) <|
      lt (X 200 a9) fun x11 =>
      (x11).bind fun a12 =>
      gdp (Sh K X a12 3 rows3) <|
      (f4_isAim p3 (I 304 a12) (I 305 a12)).bind fun r13 =>
      if r13 = 0 then
        gdp (0 ≤ 105 ∧ 0 ≤ 5502) <|
        some ((-1 : Int32), K, I, J, X, A, B, Q, n)
      else
        (f1_isIn p4 (0 : Int32) (20 : Int32)).bind fun r17 =>
        if r17 = 0 then
          gdp (0 ≤ 105 ∧ 0 ≤ 5502) <|
          some ((-1 : Int32), K, I, J, X, A, B, Q, n)
        else
          lt (X 35 o) fun x19 =>
          (x19).bind fun a20 =>
          gdp (Sh K X a20 9 rows9) <|
          gdp (nda [(a20 + 1), (a20 + 2), (a20 + 4), (a12 + 2), (a12 + 3)]) <|
          (f12_begin (I 905 a20) (A (a20 + 1)) (A (a20 + 2)) (A (a20 + 4)) (A (a12 + 2)) (A (a12 + 3))).bind fun r21 =>
          lt ((ov I [(905, a20, r21.1)])) fun Im24 =>
          lt ((ov X [(904, a20, (some a12))])) fun Xm25 =>
          lt ((ova A [((a20 + 1), r21.2.1), ((a20 + 2), r21.2.2.1), ((a20 + 4), r21.2.2.2), ((a12 + 2), (A (a12 + 2))), ((a12 + 3), (A (a12 + 3)))])) fun Am26 =>
          lt (i_up Im24 38 o (1 : Int32)) fun Im27 =>
          lt (Xm25 35 o) fun x28 =>
          (x28).bind fun a29 =>
          gdp (Sh K Xm25 a29 9 rows9) <|
          (f12_burning (Am26 (a29 + 4))).bind fun r30 =>
          if r30 = 0 then
            w1_fire_j79 zz o p1 p2 p3 p4 K J B Q n Xm25 Am26 Im27 (0 : Int32)
          else
            w1_fire_j79 zz o p1 p2 p3 p4 K J B Q n Xm25 Am26 Im27 (-1 : Int32)
set_option maxHeartbeats 4000000 in
theorem m1_fire_w (l : Launch) (G : gG) (K : gK) (I : gI) (J : gJ) (X : gX) (A : gI) (B : gJ) (Q : gX) (n : Nat) (o : Nat) (p1 : Int32) (p2 : Int32) (p3 : Int32) (p4 : Int32) (out : Int32 × gK × gI × gJ × gX × gI × gJ × gX × Nat) (hf : w1_fire G.2.2 (aK G) o p1 p2 p3 p4 K I J X A B Q n = some out) : GMetX l yX1_fire cX1_fire 6 (some .int) (6) (138) G [.ref o, .int p1, .int p2, .int p3, .int p4] K I J X A B Q (.inr (some (.int out.1))) out.2.1 out.2.2.1 out.2.2.2.1 out.2.2.2.2.1 out.2.2.2.2.2.1 out.2.2.2.2.2.2.1 out.2.2.2.2.2.2.2.1 105 5502 := by
  refine GMetX.of (y := yX1_fire) rfl (Nat.le_of_ble_eq_true rfl) (la := [(0, .ref o), (1, .int p1), (2, .int p2), (3, .int p3), (4, .int p4)]) rfl ?_
  intro p e s m below meth c ls hx hb hr hml hlocks hts hown hname ht hG hR hW hl
  have hown : s.vm.findClass RX1 = some m.cls := hown
  have hS : va_S (gA G) s.heap s.heap [] := va_S.rf
  have hz : (∃ a, K a ≠ none) → G.2.2 ≤ s.heap.size := fun ⟨a, h⟩ => Nat.le_of_lt (Nat.lt_of_le_of_lt (hR.ge h) (hR.lt h))
  have hend : ∀ (pc : Nat) (H : Heap) (locs : List Loc) (ls : Array Slot), decode cX1_fire pc = .ok (.ireturn, 1) → RS G out.2.1 out.2.2.1 out.2.2.2.1 out.2.2.2.2.1 out.2.2.2.2.2.1 out.2.2.2.2.2.2.1 out.2.2.2.2.2.2.2.1 H → va_S (gA G) s.heap H locs → W p l e ({ frames := 6, cells := 105, slots := 5502, locals := 138 } : Room) s m ([.ref o, .int p1, .int p2, .int p3, .int p4] : List Value).toArray below meth c H locs 105 5502 (vx_MQ below (xQ G (.inr (some (.int out.1))) out.2.1 out.2.2.1 out.2.2.2.1 out.2.2.2.2.1 out.2.2.2.2.2.1 out.2.2.2.2.2.2.1 out.2.2.2.2.2.2.2.1) (xX G (.inr (some (.int out.1))) out.2.1 out.2.2.1 out.2.2.2.1 out.2.2.2.2.1 out.2.2.2.2.2.1 out.2.2.2.2.2.2.1 out.2.2.2.2.2.2.2.1) ([.ref o, .int p1, .int p2, .int p3, .int p4] : List Value).toArray s 105 5502 (gA G)) (F0 m pc ls [.int out.1]) := fun pc H locs ls hd hR hS => x_nret hx hb hr rfl hlocks hG hR hS rfl hd
  generalize vx_MQ below (xQ G (.inr (some (.int out.1))) out.2.1 out.2.2.1 out.2.2.2.1 out.2.2.2.2.1 out.2.2.2.2.2.1 out.2.2.2.2.2.2.1 out.2.2.2.2.2.2.2.1) (xX G (.inr (some (.int out.1))) out.2.1 out.2.2.1 out.2.2.2.1 out.2.2.2.2.1 out.2.2.2.2.2.1 out.2.2.2.2.2.2.1 out.2.2.2.2.2.2.2.1) ([.ref o, .int p1, .int p2, .int p3, .int p4] : List Value).toArray s 105 5502 (gA G) = Z at hend ⊢
  generalize ([.ref o, .int p1, .int p2, .int p3, .int p4] : List Value).toArray = args at hts hend ⊢
  unfold w1_fire at hf
  obtain ⟨k0, hf⟩ := gdp_some hf
  refine lv_iload_n hx hb dX1_fire_0 rfl (lv_at hl 1 rfl) ?_
  refine lv_iconst (v := 0) hx hb dX1_fire_1 li_0 ?_
  refine lv_bipush (v := 60) hx hb dX1_fire_2 lb_60 ?_
  obtain ⟨r1, hr1, hf⟩ := bind_s hf
  refine g0_cS (rm := (0, 0)) (As := [.int p1, .int (0 : Int32), .int (60 : Int32)]) (rest := []) ⟨hx, hb, hml, hown, hts⟩ hG hR hS (m1_isIn l G K I J X A B Q p1 (0 : Int32) (60 : Int32) r1 hr1) ⟨callB_of 3 hts (lw_meth q862) rfl rfl rfl (hts _ q103) (hts _ q1121) (by decide +kernel) ⟨Nat.le_of_ble_eq_true rfl, Nat.le_of_ble_eq_true rfl⟩, hts _ q861⟩ rfl hl.1 (Nat.le_of_ble_eq_true rfl) dX1_fire_4 ⟨Nat.zero_le _, Nat.zero_le _⟩ rfl (fun H locs hR hS => ?_)
  refine lv_if_eq (tgt := 42) hx hb dX1_fire_7 (by decide) (fun c2 => ?_) (fun c2 => ?_)
  · have hf := ite_t c2 hf
    refine lv_iconst (v := -1) hx hb dX1_fire_42 li_m1 ?_
    obtain ⟨c3, hf⟩ := gdp_some hf
    refine W.widen c3.1 c3.2 ?_
    obtain rfl := some_i hf
    exact hend _ _ _ _ dX1_fire_43 hR hS
  · have hf := ite_f c2 hf
    refine lv_iload_n hx hb dX1_fire_10 rfl (lv_at hl 2 rfl) ?_
    obtain ⟨r4, hr4, hf⟩ := bind_s hf
    refine g0_cS (rm := (1, 22)) (As := [.int p2]) (rest := []) ⟨hx, hb, hml, hown, hts⟩ hG hR hS (m1_areLitres l G K I J X A B Q p2 r4 hr4) ⟨callB_of 1 hts (lw_meth q1318) rfl rfl rfl (hts _ q103) (hts _ q1316) (by decide +kernel) ⟨Nat.le_of_ble_eq_true rfl, Nat.le_of_ble_eq_true rfl⟩, hts _ q1317⟩ rfl hl.1 (Nat.le_of_ble_eq_true rfl) dX1_fire_11 ⟨Nat.zero_le _, Nat.zero_le _⟩ rfl (fun H locs hR hS => ?_)
    refine lv_if_eq (tgt := 42) hx hb dX1_fire_14 (by decide) (fun c5 => ?_) (fun c5 => ?_)
    · have hf := ite_t c5 hf
      refine lv_iconst (v := -1) hx hb dX1_fire_42 li_m1 ?_
      obtain ⟨c6, hf⟩ := gdp_some hf
      refine W.widen c6.1 c6.2 ?_
      obtain rfl := some_i hf
      exact hend _ _ _ _ dX1_fire_43 hR hS
    · have hf := ite_f c5 hf
      refine lv_aload_n hx hb dX1_fire_17 rfl (lv_at hl 0 rfl) ?_
      obtain ⟨k7, hf⟩ := gdp_some hf
      obtain ⟨x8, ex8, hf⟩ := lt_some hf
      refine g_getx hx hb hts hown hG hR gFx_X1_96_0 k7 dX1_fire_18 ?_
      rw [← ex8]
      obtain ⟨a9, ha9, hf⟩ := bind_s hf
      try rw [ha9]
      obtain ⟨k10, hf⟩ := gdp_some hf
      obtain ⟨x11, ex11, hf⟩ := lt_some hf
      refine g_getx hx hb hts hown hG hR gFx_X1_241_2 k10 dX1_fire_21 ?_
      rw [← ex11]
      refine lv_iload_n hx hb dX1_fire_24 rfl (lv_at hl 3 rfl) ?_
      obtain ⟨a12, ha12, hf⟩ := bind_s hf
      try rw [ha12]
      obtain ⟨g14, hf⟩ := gdp_some hf
      obtain ⟨r13, hr13, hf⟩ := bind_s hf
      refine g0_cV (rm := (2, 44)) (As := [.int p3]) (rest := []) ⟨hx, hb, hml, hown, hts⟩ hG hR hS (m4_isAim l G K I J X A B Q a12 g14 p3 (I 304 a12) (I 305 a12) rfl rfl r13 hr13) ⟨callB_of 1 hts (lw_meth q1104) rfl rfl rfl (hts _ q108) (hts _ q1319) (by decide +kernel) ⟨Nat.le_of_ble_eq_true rfl, Nat.le_of_ble_eq_true rfl⟩, hts _ q1102, hts _ q1103⟩ g14.1 rfl rfl hl.1 (Nat.le_of_ble_eq_true rfl) dX1_fire_25 ⟨Nat.zero_le _, Nat.zero_le _⟩ rfl (fun H locs hR hS => ?_)
      refine lv_if_eq (tgt := 42) hx hb dX1_fire_28 (by decide) (fun c15 => ?_) (fun c15 => ?_)
      · have hf := ite_t c15 hf
        refine lv_iconst (v := -1) hx hb dX1_fire_42 li_m1 ?_
        obtain ⟨c16, hf⟩ := gdp_some hf
        refine W.widen c16.1 c16.2 ?_
        obtain rfl := some_i hf
        exact hend _ _ _ _ dX1_fire_43 hR hS
      · have hf := ite_f c15 hf
        refine lv_iload hx hb dX1_fire_31 (lv_at hl 4 rfl) ?_
        refine lv_iconst (v := 0) hx hb dX1_fire_33 li_0 ?_
        refine lv_bipush (v := 20) hx hb dX1_fire_34 lb_20 ?_
        obtain ⟨r17, hr17, hf⟩ := bind_s hf
        refine g0_cS (rm := (0, 0)) (As := [.int p4, .int (0 : Int32), .int (20 : Int32)]) (rest := []) ⟨hx, hb, hml, hown, hts⟩ hG hR hS (m1_isIn l G K I J X A B Q p4 (0 : Int32) (20 : Int32) r17 hr17) ⟨callB_of 3 hts (lw_meth q862) rfl rfl rfl (hts _ q103) (hts _ q1121) (by decide +kernel) ⟨Nat.le_of_ble_eq_true rfl, Nat.le_of_ble_eq_true rfl⟩, hts _ q861⟩ rfl hl.1 (Nat.le_of_ble_eq_true rfl) dX1_fire_36 ⟨Nat.zero_le _, Nat.zero_le _⟩ rfl (fun H locs hR hS => ?_)
        refine lv_if_ne (tgt := 44) hx hb dX1_fire_39 (by decide) (fun c18 => ?_) (fun c18 => ?_)
        · have hf := ite_f c18 hf
          refine lv_aload_n hx hb dX1_fire_44 rfl (lv_at hl 0 rfl) ?_
          obtain ⟨x19, ex19, hf⟩ := lt_some hf
          refine g_getx hx hb hts hown hG hR gFx_X1_169_0 k7 dX1_fire_45 ?_
          rw [← ex19]
          refine lv_aload_n hx hb dX1_fire_48 rfl (lv_at hl 0 rfl) ?_
          refine g_getx hx hb hts hown hG hR gFx_X1_96_0 k7 dX1_fire_49 ?_
          rw [← ex8]
          try rw [ha9]
          refine g_getx hx hb hts hown hG hR gFx_X1_241_2 k10 dX1_fire_52 ?_
          rw [← ex11]
          obtain ⟨a20, ha20, hf⟩ := bind_s hf
          try rw [ha20]
          try rw [ha12]
          obtain ⟨g22, hf⟩ := gdp_some hf
          obtain ⟨g23, hf⟩ := gdp_some hf
          obtain ⟨r21, hr21, hf⟩ := bind_s hf
          refine g0_cVv (rm := (0, 0)) (As := [.ref a12]) (rest := []) ⟨hx, hb, hml, hown, hts⟩ hG hR hS (m12_begin l G K I J X A B Q a20 a12 g22 g14 g23 (I 905 a20) (X 904 a20) (A (a20 + 1)) (A (a20 + 2)) (A (a20 + 4)) (A (a12 + 2)) (A (a12 + 3)) rfl rfl rfl rfl rfl rfl rfl r21 hr21) ⟨callB_of 1 hts (lw_meth q1323) rfl rfl rfl (hts _ q116) (hts _ q1320) (by decide +kernel) ⟨Nat.le_of_ble_eq_true rfl, Nat.le_of_ble_eq_true rfl⟩, hts _ q1321, hts _ q1322⟩ g22.1 rfl rfl hl.1 (Nat.le_of_ble_eq_true rfl) dX1_fire_55 ⟨Nat.zero_le _, Nat.zero_le _⟩ rfl (fun H locs hR hS => ?_)
          obtain ⟨Im24, eIm24, hf⟩ := lt_some hf
          obtain ⟨Xm25, eXm25, hf⟩ := lt_some hf
          obtain ⟨Am26, eAm26, hf⟩ := lt_some hf
          rw [← eIm24, ← eXm25, ← eAm26] at hR
          refine lv_aload_n hx hb dX1_fire_58 rfl (lv_at hl 0 rfl) ?_
          refine lv_iconst (v := 1) hx hb dX1_fire_59 li_1 ?_
          refine g_putz (v := (1 : Int32)) hx hb hts hown hG hR hS gPz_X1_442_0 k7 nz_1 dX1_fire_60 (fun H locs hR hS => ?_)
          obtain ⟨Im27, eIm27, hf⟩ := lt_some hf
          rw [← eIm27] at hR
          refine lv_aload_n hx hb dX1_fire_63 rfl (lv_at hl 0 rfl) ?_
          refine lv_aload_n hx hb dX1_fire_64 rfl (lv_at hl 0 rfl) ?_
          obtain ⟨x28, ex28, hf⟩ := lt_some hf
          refine g_getx hx hb hts hown hG hR gFx_X1_169_0 k7 dX1_fire_65 ?_
          rw [← ex28]
          obtain ⟨a29, ha29, hf⟩ := bind_s hf
          try rw [ha29]
          obtain ⟨g31, hf⟩ := gdp_some hf
          obtain ⟨r30, hr30, hf⟩ := bind_s hf
          refine g0_cV (rm := (0, 0)) (As := []) (rest := [.ref o]) ⟨hx, hb, hml, hown, hts⟩ hG hR hS (m12_burning l G K Im27 J Xm25 Am26 B Q a29 g31 (Am26 (a29 + 4)) rfl r30 hr30) ⟨callB_of 0 hts (lw_meth q1327) rfl rfl rfl (hts _ q116) (hts _ q1324) (by decide +kernel) ⟨Nat.le_of_ble_eq_true rfl, Nat.le_of_ble_eq_true rfl⟩, hts _ q1325, hts _ q1326⟩ g31.1 rfl rfl hl.1 (Nat.le_of_ble_eq_true rfl) dX1_fire_68 ⟨Nat.zero_le _, Nat.zero_le _⟩ rfl (fun H locs hR hS => ?_)
          have hj79 : ∀ (j79_s0 : Int32), w1_fire_j79 G.2.2 o p1 p2 p3 p4 K J B Q n Xm25 Am26 Im27 j79_s0 = some out → ∀ (H : Heap) (locs : List Loc) (ls : Array Slot), RS G K Im27 J Xm25 Am26 B Q H → va_S (gA G) s.heap H locs → lv_has ls 6 [(0, .ref o), (1, .int p1), (2, .int p2), (3, .int p3), (4, .int p4)] → W p l e ({ frames := 6, cells := 105, slots := 5502, locals := 138 } : Room) s m args below meth c H locs 0 0 Z (F0 m 79 ls [.int j79_s0, .ref o]) := by
            intro j79_s0 hf H locs ls hR hS hl
            unfold w1_fire_j79 at hf
            refine g_puti (v := j79_s0) hx hb hts hown hG hR hS gPi_X1_447_0 k7 dX1_fire_79 (fun H locs hR hS => ?_)
            obtain ⟨Im32, eIm32, hf⟩ := lt_some hf
            rw [← eIm32] at hR
            refine lv_iconst (v := 0) hx hb dX1_fire_82 li_0 ?_
            refine lv_istore (lv' := [(5, .int (0 : Int32)), (0, .ref o), (1, .int p1), (2, .int p2), (3, .int p3), (4, .int p4)]) hx hb dX1_fire_83 hl (by decide) rfl (fun ls hl => ?_)
            obtain ⟨rl33, hw33, hfo33⟩ := bind_s hf
            have hx33_0 : ∀ (x33_0 : gK × gI × gJ × gX × gI × gJ × gX × Nat × Nat × Nat), w1_fire_e33_0 o x33_0 = some out → ∀ (H : Heap) (locs : List Loc) (ls : Array Slot), RS G x33_0.1 x33_0.2.1 x33_0.2.2.1 x33_0.2.2.2.1 x33_0.2.2.2.2.1 x33_0.2.2.2.2.2.1 x33_0.2.2.2.2.2.2.1 H → va_S (gA G) s.heap H locs → lv_has ls 6 [(0, .ref o)] → W p l e ({ frames := 6, cells := 105, slots := 5502, locals := 138 } : Room) s m args below meth c H locs x33_0.2.2.2.2.2.2.2.2.1 x33_0.2.2.2.2.2.2.2.2.2 Z (F0 m 199 ls []) := by
              intro x33_0 hf H locs ls hR hS hl
              unfold w1_fire_e33_0 at hf
              refine lv_aload_n hx hb dX1_fire_199 rfl (lv_at hl 0 rfl) ?_
              obtain ⟨k34, hf⟩ := gdp_some hf
              obtain ⟨x35, ex35, hf⟩ := lt_some hf
              refine g_getx hx hb hts hown hG hR gFx_X1_169_0 k34 dX1_fire_200 ?_
              rw [← ex35]
              obtain ⟨a36, ha36, hf⟩ := bind_s hf
              try rw [ha36]
              obtain ⟨k37, hf⟩ := gdp_some hf
              obtain ⟨v38, ev38, hf⟩ := lt_some hf
              refine n_geti (v := v38) hx hb hts hown hG hR gFi_X1_459_9 k37 ev38.symm dX1_fire_203 ?_
              obtain ⟨c39, hf⟩ := gdp_some hf
              refine W.widen c39.1 c39.2 ?_
              obtain rfl := some_i hf
              exact hend _ _ _ _ dX1_fire_206 hR hS
            refine whl_walk (P := fun (s33 : Int32 × gK × gI × gJ × gX × gI × gJ × gX × Nat × Nat × Nat) => ∀ (H : Heap) (locs : List Loc) (ls : Array Slot), RS G s33.2.1 s33.2.2.1 s33.2.2.2.1 s33.2.2.2.2.1 s33.2.2.2.2.2.1 s33.2.2.2.2.2.2.1 s33.2.2.2.2.2.2.2.1 H → va_S (gA G) s.heap H locs → lv_has ls 6 [(0, .ref o), (1, .int p1), (2, .int p2), (3, .int p3), (4, .int p4), (5, .int s33.1)] → W p l e ({ frames := 6, cells := 105, slots := 5502, locals := 138 } : Room) s m args below meth c H locs s33.2.2.2.2.2.2.2.2.2.1 s33.2.2.2.2.2.2.2.2.2.2 Z (F0 m 85 ls [])) (r := rl33) ?_ FU _ hw33 _ _ _ hR hS (lv_sub hl [1, 2, 3, 4, 5, 0] rfl)
            clear hR hS hl hf
            intro s33 o33 hf hk33 H locs ls hR hS hl
            obtain ⟨w33_5, w33_K, w33_I, w33_J, w33_X, w33_A, w33_B, w33_Q, w33_n, w33_u, w33_v⟩ := s33
            have hf : w1_fire_s33 G.2.2 o p1 p2 p3 p4 w33_5 w33_K w33_I w33_J w33_X w33_A w33_B w33_Q w33_n w33_u w33_v = some o33 := hf
            have hR : RS G w33_K w33_I w33_J w33_X w33_A w33_B w33_Q H := hR
            have hl : lv_has ls 6 [(0, .ref o), (1, .int p1), (2, .int p2), (3, .int p3), (4, .int p4), (5, .int w33_5)] := hl
            unfold w1_fire_s33 at hf
            refine lv_iload hx hb dX1_fire_85 (lv_at hl 5 rfl) ?_
            refine lv_iload_n hx hb dX1_fire_87 rfl (lv_at hl 1 rfl) ?_
            refine lv_icmp_ge (tgt := 199) hx hb dX1_fire_88 (by decide) (fun c40 => ?_) (fun c40 => ?_)
            · have hf := ite_t c40 hf
              obtain rfl := some_i hf
              replace hk33 : _ = rl33 := hk33
              subst hk33
              exact hx33_0 (w33_K, w33_I, w33_J, w33_X, w33_A, w33_B, w33_Q, w33_n, w33_u, w33_v) hfo33 _ _ _ hR hS (lv_sub hl [0] rfl)
            · have hf := ite_f c40 hf
              refine lv_aload_n hx hb dX1_fire_91 rfl (lv_at hl 0 rfl) ?_
              obtain ⟨k41, hf⟩ := gdp_some hf
              obtain ⟨x42, ex42, hf⟩ := lt_some hf
              refine g_getx hx hb hts hown hG hR gFx_X1_176_0 k41 dX1_fire_92 ?_
              rw [← ex42]
              refine lv_iload hx hb dX1_fire_95 (lv_at hl 5 rfl) ?_
              refine lv_bipush (v := 21) hx hb dX1_fire_97 lb_21 ?_
              obtain ⟨c44, hf⟩ := gd_some hf
              obtain ⟨v43, ev43, hf⟩ := lt_some hf
              refine n_irem hx hb c44 ev43 dX1_fire_99 ?_
              obtain ⟨a45, ha45, hf⟩ := bind_s hf
              try rw [ha45]
              obtain ⟨n46, hn46, hf⟩ := bind_s hf
              have kn46 := alen_k hn46
              obtain ⟨c47, hf⟩ := gdp_some hf
              obtain ⟨x48, ex48, hf⟩ := lt_some hf
              refine g_aald (t := 2) hx hb hG hR kn46 (by decide) c47 dX1_fire_100 ?_
              rw [← ex48]
              have hj121 : ∀ (j121_K : gK) (j121_I : gI) (j121_J : gJ) (j121_X : gX) (j121_A : gI) (j121_B : gJ) (j121_Q : gX) (j121_n : Nat) (j121_u : Nat) (j121_v : Nat), w1_fire_j121 o p2 p3 p4 w33_5 j121_K j121_I j121_J j121_X j121_A j121_B j121_Q j121_n j121_u j121_v = some o33 → ∀ (H : Heap) (locs : List Loc) (ls : Array Slot), RS G j121_K j121_I j121_J j121_X j121_A j121_B j121_Q H → va_S (gA G) s.heap H locs → lv_has ls 6 [(0, .ref o), (1, .int p1), (2, .int p2), (3, .int p3), (4, .int p4), (5, .int w33_5)] → W p l e ({ frames := 6, cells := 105, slots := 5502, locals := 138 } : Room) s m args below meth c H locs j121_u j121_v Z (F0 m 121 ls []) := by
                intro j121_K j121_I j121_J j121_X j121_A j121_B j121_Q j121_n j121_u j121_v hf H locs ls hR hS hl
                unfold w1_fire_j121 at hf
                refine lv_aload_n hx hb dX1_fire_121 rfl (lv_at hl 0 rfl) ?_
                obtain ⟨k49, hf⟩ := gdp_some hf
                obtain ⟨x50, ex50, hf⟩ := lt_some hf
                refine g_getx hx hb hts hown hG hR gFx_X1_176_0 k49 dX1_fire_122 ?_
                rw [← ex50]
                refine lv_iload hx hb dX1_fire_125 (lv_at hl 5 rfl) ?_
                refine lv_bipush (v := 21) hx hb dX1_fire_127 lb_21 ?_
                obtain ⟨c52, hf⟩ := gd_some hf
                obtain ⟨v51, ev51, hf⟩ := lt_some hf
                refine n_irem hx hb c52 ev51 dX1_fire_129 ?_
                obtain ⟨a53, ha53, hf⟩ := bind_s hf
                try rw [ha53]
                obtain ⟨n54, hn54, hf⟩ := bind_s hf
                have kn54 := alen_k hn54
                obtain ⟨c55, hf⟩ := gdp_some hf
                obtain ⟨x56, ex56, hf⟩ := lt_some hf
                refine g_aald (t := 2) hx hb hG hR kn54 (by decide) c55 dX1_fire_130 ?_
                rw [← ex56]
                refine lv_aload_n hx hb dX1_fire_131 rfl (lv_at hl 0 rfl) ?_
                obtain ⟨x57, ex57, hf⟩ := lt_some hf
                refine g_getx hx hb hts hown hG hR gFx_X1_169_0 k49 dX1_fire_132 ?_
                rw [← ex57]
                obtain ⟨a58, ha58, hf⟩ := bind_s hf
                try rw [ha58]
                obtain ⟨a59, ha59, hf⟩ := bind_s hf
                try rw [ha59]
                obtain ⟨c61, hf⟩ := gdp_some hf
                obtain ⟨a62, ha62, hf⟩ := bind_s hf
                obtain ⟨g63, hf⟩ := gdp_some hf
                obtain ⟨g64, hf⟩ := gdp_some hf
                obtain ⟨g65, hf⟩ := gdp_some hf
                obtain ⟨g66, hf⟩ := gdp_some hf
                obtain ⟨r60, hr60, hf⟩ := bind_s hf
                refine g0_cVv (rm := (1, 26)) (As := [.ref a59]) (rest := []) ⟨hx, hb, hml, hown, hts⟩ hG hR hS (m12_be l G j121_K j121_I j121_J j121_X j121_A j121_B j121_Q a58 a59 a62 g63 g64 g65 ha62 g66 (j121_I 905 a59) (j121_I 905 a58) (j121_X 904 a58) (j121_A (a59 + 1)) (j121_A (a59 + 2)) (j121_A (a59 + 4)) (j121_A (a58 + 1)) (j121_A (a58 + 2)) (j121_A (a58 + 4)) rfl rfl rfl rfl rfl rfl rfl rfl rfl r60 hr60) ⟨callB_of 1 hts (lw_meth q1331) rfl rfl rfl (hts _ q116) (hts _ q1328) (by decide +kernel) ⟨Nat.le_of_ble_eq_true rfl, Nat.le_of_ble_eq_true rfl⟩, hts _ q1329, hts _ q1330⟩ g63.1 rfl rfl hl.1 (Nat.le_of_ble_eq_true rfl) dX1_fire_135 ⟨c61.1, c61.2⟩ rfl (fun H locs hR hS => ?_)
                obtain ⟨Im67, eIm67, hf⟩ := lt_some hf
                obtain ⟨Xm68, eXm68, hf⟩ := lt_some hf
                obtain ⟨Am69, eAm69, hf⟩ := lt_some hf
                rw [← eIm67, ← eXm68, ← eAm69] at hR
                refine lv_aload_n hx hb dX1_fire_138 rfl (lv_at hl 0 rfl) ?_
                obtain ⟨x70, ex70, hf⟩ := lt_some hf
                refine g_getx hx hb hts hown hG hR gFx_X1_169_0 k49 dX1_fire_139 ?_
                rw [← ex70]
                refine lv_aload_n hx hb dX1_fire_142 rfl (lv_at hl 0 rfl) ?_
                obtain ⟨x71, ex71, hf⟩ := lt_some hf
                refine g_getx hx hb hts hown hG hR gFx_X1_176_0 k49 dX1_fire_143 ?_
                rw [← ex71]
                refine lv_iconst (v := 0) hx hb dX1_fire_146 li_0 ?_
                refine lv_iload hx hb dX1_fire_147 (lv_at hl 5 rfl) ?_
                refine lv_iload hx hb dX1_fire_149 (lv_at hl 4 rfl) ?_
                obtain ⟨v72, ev72, hf⟩ := lt_some hf
                refine n_isub hx hb ev72 dX1_fire_151 ?_
                obtain ⟨v73, ev73, hf⟩ := lt_some hf
                refine n_mmax (rest := [va_rf x71, va_rf x70]) hx hb (hml.trans hl.1.symm) hown (hts _ q1307) (hts _ q1186) (hts _ q127) (hts _ q1187) (Nat.le_of_ble_eq_true rfl) (by simp [va_rf_c, cat_r, cat_i, cat_l, cat_n]) c61.1 c61.2 ev73 dX1_fire_152 ?_
                refine lv_bipush (v := 21) hx hb dX1_fire_155 lb_21 ?_
                obtain ⟨c75, hf⟩ := gd_some hf
                obtain ⟨v74, ev74, hf⟩ := lt_some hf
                refine n_irem hx hb c75 ev74 dX1_fire_157 ?_
                obtain ⟨a76, ha76, hf⟩ := bind_s hf
                try rw [ha76]
                obtain ⟨n77, hn77, hf⟩ := bind_s hf
                have kn77 := alen_k hn77
                obtain ⟨c78, hf⟩ := gdp_some hf
                obtain ⟨x79, ex79, hf⟩ := lt_some hf
                refine g_aald (t := 2) hx hb hG hR kn77 (by decide) c78 dX1_fire_158 ?_
                rw [← ex79]
                refine lv_iload_n hx hb dX1_fire_159 rfl (lv_at hl 3 rfl) ?_
                obtain ⟨a80, ha80, hf⟩ := bind_s hf
                try rw [ha80]
                obtain ⟨a82, ha82, hf⟩ := bind_s hf
                obtain ⟨g83, hf⟩ := gdp_some hf
                obtain ⟨g84, hf⟩ := gdp_some hf
                obtain ⟨r81, hr81, hf⟩ := bind_s hf
                refine g0_cV (rm := (5, 114)) (As := [.int p3]) (rest := [va_rf x70]) ⟨hx, hb, hml, hown, hts⟩ hG hR hS (m12_aimed l G j121_K Im67 j121_J Xm68 Am69 j121_B j121_Q a80 a82 g83 g84 ha82 p3 (Im67 304 a82) (Im67 305 a82) (Im67 314 a82) (Am69 (a80 + 1)) (Am69 (a80 + 3)) (Am69 (a80 + 4)) rfl rfl rfl rfl rfl rfl r81 hr81) ⟨callB_of 1 hts (lw_meth q1336) rfl rfl rfl (hts _ q116) (hts _ q1333) (by decide +kernel) ⟨Nat.le_of_ble_eq_true rfl, Nat.le_of_ble_eq_true rfl⟩, hts _ q1334, hts _ q1335⟩ g83.1 rfl rfl hl.1 (by simp [va_rf_c, cat_r, cat_i, cat_l, cat_n]) dX1_fire_160 ⟨c61.1, c61.2⟩ rfl (fun H locs hR hS => ?_)
                obtain ⟨Am85, eAm85, hf⟩ := lt_some hf
                rw [← eAm85] at hR
                refine lv_iload_n hx hb dX1_fire_163 rfl (lv_at hl 2 rfl) ?_
                obtain ⟨a86, ha86, hf⟩ := bind_s hf
                try rw [ha86]
                obtain ⟨a88, ha88, hf⟩ := bind_s hf
                obtain ⟨g89, hf⟩ := gdp_some hf
                obtain ⟨g90, hf⟩ := gdp_some hf
                obtain ⟨r87, hr87, hf⟩ := bind_s hf
                refine g0_cVv (rm := (4, 91)) (As := [.int r81.1, .int p2]) (rest := []) ⟨hx, hb, hml, hown, hts⟩ hG hR hS (m12_minute l G j121_K Im67 j121_J Xm68 Am85 j121_B j121_Q a86 a88 g89 g90 ha88 r81.1 p2 (Im67 304 a88) (Im67 305 a88) (Im67 314 a88) (Im67 905 a86) (Am85 (a86 + 1)) (Am85 (a86 + 2)) (Am85 (a86 + 3)) (Am85 (a86 + 4)) rfl rfl rfl rfl rfl rfl rfl rfl r87 hr87) ⟨callB_of 2 hts (lw_meth q1353) rfl rfl rfl (hts _ q116) (hts _ q1350) (by decide +kernel) ⟨Nat.le_of_ble_eq_true rfl, Nat.le_of_ble_eq_true rfl⟩, hts _ q1351, hts _ q1352⟩ g89.1 rfl rfl hl.1 (Nat.le_of_ble_eq_true rfl) dX1_fire_164 ⟨c61.1, c61.2⟩ rfl (fun H locs hR hS => ?_)
                obtain ⟨Im91, eIm91, hf⟩ := lt_some hf
                obtain ⟨Am92, eAm92, hf⟩ := lt_some hf
                rw [← eIm91, ← eAm92] at hR
                refine lv_aload_n hx hb dX1_fire_167 rfl (lv_at hl 0 rfl) ?_
                obtain ⟨v93, ev93, hf⟩ := lt_some hf
                refine n_geti (v := v93) hx hb hts hown hG hR gFi_X1_447_0 k49 ev93.symm dX1_fire_168 ?_
                refine lv_iconst (v := -1) hx hb dX1_fire_171 li_m1 ?_
                have hj193 : ∀ (j193_I : gI) (j193_J : gJ) (j193_X : gX) (j193_A : gI) (j193_B : gJ) (j193_Q : gX), w1_fire_j193 w33_5 j121_K j121_n j121_u j121_v j193_I j193_J j193_X j193_A j193_B j193_Q = some o33 → ∀ (H : Heap) (locs : List Loc) (ls : Array Slot), RS G j121_K j193_I j193_J j193_X j193_A j193_B j193_Q H → va_S (gA G) s.heap H locs → lv_has ls 6 [(0, .ref o), (1, .int p1), (2, .int p2), (3, .int p3), (4, .int p4), (5, .int w33_5)] → W p l e ({ frames := 6, cells := 105, slots := 5502, locals := 138 } : Room) s m args below meth c H locs j121_u j121_v Z (F0 m 193 ls []) := by
                  intro j193_I j193_J j193_X j193_A j193_B j193_Q hf H locs ls hR hS hl
                  unfold w1_fire_j193 at hf
                  obtain ⟨v94, ev94, hf⟩ := lt_some hf
                  refine lv_iinc (k := 5) (v := v94) (lv' := [(5, .int v94), (0, .ref o), (1, .int p1), (2, .int p2), (3, .int p3), (4, .int p4)]) hx hb dX1_fire_193 hl rfl (by rw [ev94]; rfl) (by decide) rfl (fun ls hl => ?_)
                  refine lv_goto (tgt := 85) hx hb dX1_fire_196 (by decide) ?_
                  obtain rfl := some_i hf
                  exact hk33 _ _ _ hR hS (lv_sub hl [1, 2, 3, 4, 5, 0] rfl)
                refine lv_icmp_ne (tgt := 193) hx hb dX1_fire_172 (by decide) (fun c95 => ?_) (fun c95 => ?_)
                · have hf := ite_f c95 hf
                  exact hj193 Im91 j121_J Xm68 Am92 j121_B j121_Q hf _ _ _ hR hS (lv_sub hl [0, 1, 2, 3, 4, 5] rfl)
                · have hf := ite_t c95 hf
                  refine lv_aload_n hx hb dX1_fire_175 rfl (lv_at hl 0 rfl) ?_
                  refine g_getx hx hb hts hown hG hR gFx_X1_169_0 k49 dX1_fire_176 ?_
                  rw [← ex70]
                  try rw [ha86]
                  obtain ⟨r96, hr96, hf⟩ := bind_s hf
                  refine g0_cV (rm := (0, 0)) (As := []) (rest := []) ⟨hx, hb, hml, hown, hts⟩ hG hR hS (m12_burning l G j121_K Im91 j121_J Xm68 Am92 j121_B j121_Q a86 g89 (Am92 (a86 + 4)) rfl r96 hr96) ⟨callB_of 0 hts (lw_meth q1327) rfl rfl rfl (hts _ q116) (hts _ q1324) (by decide +kernel) ⟨Nat.le_of_ble_eq_true rfl, Nat.le_of_ble_eq_true rfl⟩, hts _ q1325, hts _ q1326⟩ g89.1 rfl rfl hl.1 (Nat.le_of_ble_eq_true rfl) dX1_fire_179 ⟨c61.1, c61.2⟩ rfl (fun H locs hR hS => ?_)
                  refine lv_if_ne (tgt := 193) hx hb dX1_fire_182 (by decide) (fun c97 => ?_) (fun c97 => ?_)
                  · have hf := ite_f c97 hf
                    exact hj193 Im91 j121_J Xm68 Am92 j121_B j121_Q hf _ _ _ hR hS (lv_sub hl [0, 1, 2, 3, 4, 5] rfl)
                  · have hf := ite_t c97 hf
                    refine lv_aload_n hx hb dX1_fire_185 rfl (lv_at hl 0 rfl) ?_
                    refine lv_iload hx hb dX1_fire_186 (lv_at hl 5 rfl) ?_
                    refine lv_iconst (v := 1) hx hb dX1_fire_188 li_1 ?_
                    obtain ⟨v98, ev98, hf⟩ := lt_some hf
                    refine n_iadd hx hb ev98 dX1_fire_189 ?_
                    refine g_puti (v := v98) hx hb hts hown hG hR hS gPi_X1_447_0 k49 dX1_fire_190 (fun H locs hR hS => ?_)
                    obtain ⟨Im99, eIm99, hf⟩ := lt_some hf
                    rw [← eIm99] at hR
                    exact hj193 Im99 j121_J Xm68 Am92 j121_B j121_Q hf _ _ _ hR hS (lv_sub hl [0, 1, 2, 3, 4, 5] rfl)
              by_cases c100 : x48 = none
              · have hf := ite_t c100 hf
                refine n_isnone c100 ?_
                refine lv_ifnonnullN hx hb dX1_fire_101 ?_
                refine lv_aload_n hx hb dX1_fire_104 rfl (lv_at hl 0 rfl) ?_
                refine g_getx hx hb hts hown hG hR gFx_X1_176_0 k41 dX1_fire_105 ?_
                rw [← ex42]
                refine lv_iload hx hb dX1_fire_108 (lv_at hl 5 rfl) ?_
                refine lv_bipush (v := 21) hx hb dX1_fire_110 lb_21 ?_
                obtain ⟨c102, hf⟩ := gd_some hf
                obtain ⟨v101, ev101, hf⟩ := lt_some hf
                refine n_irem hx hb c102 ev101 dX1_fire_112 ?_
                obtain ⟨c103, hf⟩ := gdp_some hf
                obtain ⟨c104, hf⟩ := gdp_some hf
                refine b_new (ci := 9) (T := TX12) (N := 6) hx hb hts in_X12 tyX12 tyX12_ok hown (hts _ q577) (hts _ q578) (hts _ q116) hG (BR.start (fz c103) hR) hS (hz k0) rfl (by decide) hdv_9 (by have := c104.1; show _ ≤ 105; (try dsimp only at this ⊢); omega) (by have := c104.2; show _ ≤ 5502; (try dsimp only at this ⊢); omega) dX1_fire_113 (fun H hB hS => ?_)
                refine lv_dup hx hb dX1_fire_116 rfl ?_
                refine b_cIN (rm := (1, 12)) (As := []) (rest := [.ref w33_n, .int v101, va_rf x42]) (mc := 4) (ms := 256) (ks2 := KS_i12) (li2 := LI_i12) (lj2 := LJ_i12) (lx2 := LX_i12 (w33_n + 0)) (la2 := LA_i12) (lb2 := []) (lq2 := LQ_i12 G (w33_n + 0)) ⟨hx, hb, hml, hown, hts⟩ hG hB hS rfl ⟨nofun, nofun, nofun, nofun, nofun, nofun⟩ (fun K I J X A B Q hF => i12 l G K I J X A B Q (w33_n + 0) hF) ⟨va_cnB 0 hts (lw_meth q581) rfl rfl rfl (hG.2 _ q579 rfl) (hts _ q116) (by decide +kernel) ⟨Nat.le_of_ble_eq_true rfl, Nat.le_of_ble_eq_true rfl⟩, rfl, hts _ q580⟩ rfl hl.1 (by simp [va_rf_c, cat_r, cat_i, cat_l, cat_n]) dX1_fire_117 ⟨(by have := c104.1; show _ ≤ 105; (try dsimp only at this ⊢); omega), (by have := c104.2; show _ ≤ 5502; (try dsimp only at this ⊢); omega)⟩ rfl rfl (io_i12 G (w33_n + 0)) rfl rfl rfl rfl rfl rfl rfl (fun H locs hB hS => ?_)
                have hR : RS G (bK w33_K w33_n KS_i12) (bm 0 w33_I w33_n 5 LI_i12) (bm 0 w33_J w33_n 5 LJ_i12) (bm none w33_X w33_n 5 (LX_i12 w33_n)) (ba z0 w33_A w33_n 5 LA_i12) (ba z1 w33_B w33_n 5 []) (ba z2 w33_Q w33_n 5 (LQ_i12 G w33_n)) H := hB.2.2.2
                obtain ⟨Km105, eKm105, hf⟩ := lt_some hf
                obtain ⟨Im106, eIm106, hf⟩ := lt_some hf
                obtain ⟨Jm107, eJm107, hf⟩ := lt_some hf
                obtain ⟨Xm108, eXm108, hf⟩ := lt_some hf
                obtain ⟨Am109, eAm109, hf⟩ := lt_some hf
                obtain ⟨Bm110, eBm110, hf⟩ := lt_some hf
                obtain ⟨Qm111, eQm111, hf⟩ := lt_some hf
                have hR : RS G (bK w33_K w33_n KS_i12) Im106 Jm107 Xm108 Am109 Bm110 Qm111 H := hR.to eIm106.symm eJm107.symm eXm108.symm eAm109.symm eBm110.symm eQm111.symm
                rw [← eKm105] at hR
                obtain ⟨n112, en112, hf⟩ := lt_some hf
                obtain ⟨u113, eu113, hf⟩ := lt_some hf
                obtain ⟨v114, ev114, hf⟩ := lt_some hf
                refine W.widen (k := u113) (n := v114) (by (try dsimp only); omega) (by (try dsimp only); omega) ?_
                try rw [ha45]
                obtain ⟨k115, hf⟩ := gdp_some hf
                obtain ⟨n116, hn116, hf⟩ := bind_s hf
                have kn116 := alen_k hn116
                obtain ⟨c117, hf⟩ := gdp_some hf
                refine g_aast (t := 2) hx hb hG hR hS kn116 rfl rfl k115 c117 dX1_fire_120 (fun H locs hR hS => ?_)
                obtain ⟨Qm118, eQm118, hf⟩ := lt_some hf
                rw [← eQm118] at hR
                exact hj121 Km105 Im106 Jm107 Xm108 Am109 Bm110 Qm118 n112 u113 v114 hf _ _ _ hR hS (lv_sub hl [0, 1, 2, 3, 4, 5] rfl)
              · have hf := ite_f c100 hf
                obtain ⟨yc100, hc100⟩ := Option.ne_none_iff_exists'.mp c100
                refine n_some hc100 ?_
                refine lv_ifnonnull (tgt := 121) hx hb dX1_fire_101 (by decide) ?_
                exact hj121 w33_K w33_I w33_J w33_X w33_A w33_B w33_Q w33_n w33_u w33_v hf _ _ _ hR hS (lv_sub hl [0, 1, 2, 3, 4, 5] rfl)
          refine lv_if_ne (tgt := 78) hx hb dX1_fire_71 (by decide) (fun c119 => ?_) (fun c119 => ?_)
          · have hf := ite_f c119 hf
            refine lv_iconst (v := -1) hx hb dX1_fire_78 li_m1 ?_
            exact hj79 (-1 : Int32) hf _ _ _ hR hS (lv_sub hl [0, 1, 2, 3, 4] rfl)
          · have hf := ite_t c119 hf
            refine lv_iconst (v := 0) hx hb dX1_fire_74 li_0 ?_
            refine lv_goto (tgt := 79) hx hb dX1_fire_75 (by decide) ?_
            exact hj79 (0 : Int32) hf _ _ _ hR hS (lv_sub hl [0, 1, 2, 3, 4] rfl)
        · have hf := ite_t c18 hf
          refine lv_iconst (v := -1) hx hb dX1_fire_42 li_m1 ?_
          obtain ⟨c120, hf⟩ := gdp_some hf
          refine W.widen c120.1 c120.2 ?_
          obtain rfl := some_i hf
          exact hend _ _ _ _ dX1_fire_43 hR hS
noncomputable def w1_must (zz : Nat) (adS : Nat → Nat) (p1 : Int32) (K : gK) (I : gI) (J : gJ) (X : gX) (A : gI) (B : gJ) (Q : gX) (n : Nat) : Option ((Nat ⊕ Unit) × gK × gI × gJ × gX × gI × gJ × gX × Nat) :=
  gdp (∃ a, K a ≠ none) <|
  if p1 = 0 then
    gdp (freshz zz K n) <|
    gdp (0 + 1 ≤ 1 ∧ 0 + 6 ≤ 6) <|
    lt (a_up K n (some (.inl 19))) fun Km5 =>
    lt (n + 1) fun n6 =>
    lt (0 + 1) fun u7 =>
    lt (0 + 6) fun v8 =>
    gdp (Km5 n = some (.inl 19)) <|
    gdp (u7 ≤ 1 ∧ v8 ≤ 6) <|
    some ((.inl n), Km5, I, J, X, A, B, Q, n6)
  else
    gdp (0 ≤ 1 ∧ 0 ≤ 6) <|
    some ((.inr ()), K, I, J, X, A, B, Q, n)
set_option maxHeartbeats 4000000 in
theorem m1_must_w (l : Launch) (hlS : l.stackTraces = false) (G : gG) (K : gK) (I : gI) (J : gJ) (X : gX) (A : gI) (B : gJ) (Q : gX) (n : Nat) (p1 : Int32) (out : (Nat ⊕ Unit) × gK × gI × gJ × gX × gI × gJ × gX × Nat) (hf : w1_must G.2.2 (aK G) p1 K I J X A B Q n = some out) : GMetX l yX1_must cX1_must 1 none (8) (120) G [.int p1] K I J X A B Q (xsu "java/util/NoSuchElementException" out.1) out.2.1 out.2.2.1 out.2.2.2.1 out.2.2.2.2.1 out.2.2.2.2.2.1 out.2.2.2.2.2.2.1 out.2.2.2.2.2.2.2.1 1 6 := by
  refine GMetX.of (y := yX1_must) rfl (Nat.le_of_ble_eq_true rfl) (la := [(0, .int p1)]) rfl ?_
  intro p e s m below meth c ls hx hb hr hml hlocks hts hown hname ht hG hR hW hl
  have hown : s.vm.findClass RX1 = some m.cls := hown
  have hS : va_S (gA G) s.heap s.heap [] := va_S.rf
  have hz : (∃ a, K a ≠ none) → G.2.2 ≤ s.heap.size := fun ⟨a, h⟩ => Nat.le_of_lt (Nat.lt_of_le_of_lt (hR.ge h) (hR.lt h))
  have hend : ∀ (v : Unit), out.1 = .inr v → ∀ (pc : Nat) (H : Heap) (locs : List Loc) (ls : Array Slot), decode cX1_must pc = .ok (.return_, 1) → RS G out.2.1 out.2.2.1 out.2.2.2.1 out.2.2.2.2.1 out.2.2.2.2.2.1 out.2.2.2.2.2.2.1 out.2.2.2.2.2.2.2.1 H → va_S (gA G) s.heap H locs → W p l e ({ frames := 8, cells := 1, slots := 6, locals := 120 } : Room) s m ([.int p1] : List Value).toArray below meth c H locs 1 6 (vx_MQ below (xQ G (xsu "java/util/NoSuchElementException" out.1) out.2.1 out.2.2.1 out.2.2.2.1 out.2.2.2.2.1 out.2.2.2.2.2.1 out.2.2.2.2.2.2.1 out.2.2.2.2.2.2.2.1) (xX G (xsu "java/util/NoSuchElementException" out.1) out.2.1 out.2.2.1 out.2.2.2.1 out.2.2.2.2.1 out.2.2.2.2.2.1 out.2.2.2.2.2.2.1 out.2.2.2.2.2.2.2.1) ([.int p1] : List Value).toArray s 1 6 (gA G)) (F0 m pc ls []) := fun v hv pc H locs ls hd hR hS => x_vret hx hb hr hlocks hG hR hS (by rw [hv]; rfl) hd
  have hthr : ∀ (b : Nat), out.1 = .inl b → ∀ (pc : Nat) (H : Heap) (locs : List Loc) (ls : Array Slot) (rest : List Value), out.2.1 b = some (.inl 19) → RS G out.2.1 out.2.2.1 out.2.2.2.1 out.2.2.2.2.1 out.2.2.2.2.2.1 out.2.2.2.2.2.2.1 out.2.2.2.2.2.2.2.1 H → va_S (gA G) s.heap H locs → vx_W p l e ({ frames := 8, cells := 1, slots := 6, locals := 120 } : Room) s m ([.int p1] : List Value).toArray below meth c H locs 1 6 (vx_MQ below (xQ G (xsu "java/util/NoSuchElementException" out.1) out.2.1 out.2.2.1 out.2.2.2.1 out.2.2.2.2.1 out.2.2.2.2.2.1 out.2.2.2.2.2.2.1 out.2.2.2.2.2.2.2.1) (xX G (xsu "java/util/NoSuchElementException" out.1) out.2.1 out.2.2.1 out.2.2.2.1 out.2.2.2.2.1 out.2.2.2.2.2.1 out.2.2.2.2.2.2.1 out.2.2.2.2.2.2.2.1) ([.int p1] : List Value).toArray s 1 6 (gA G)) (F0 m pc ls rest) b := fun b hn pc H locs ls rest hk hR hS => x_out (ci := 19) ht hlocks hG hR hS hk rfl (by rw [hn]; rfl)
  generalize vx_MQ below (xQ G (xsu "java/util/NoSuchElementException" out.1) out.2.1 out.2.2.1 out.2.2.2.1 out.2.2.2.2.1 out.2.2.2.2.2.1 out.2.2.2.2.2.2.1 out.2.2.2.2.2.2.2.1) (xX G (xsu "java/util/NoSuchElementException" out.1) out.2.1 out.2.2.1 out.2.2.2.1 out.2.2.2.2.1 out.2.2.2.2.2.1 out.2.2.2.2.2.2.1 out.2.2.2.2.2.2.2.1) ([.int p1] : List Value).toArray s 1 6 (gA G) = Z at hend hthr ⊢
  generalize ([.int p1] : List Value).toArray = args at hts hend hthr ⊢
  unfold w1_must at hf
  obtain ⟨k0, hf⟩ := gdp_some hf
  refine lv_iload_n hx hb dX1_must_0 rfl (lv_at hl 0 rfl) ?_
  refine lv_if_ne (tgt := 12) hx hb dX1_must_1 (by decide) (fun c1 => ?_) (fun c1 => ?_)
  · have hf := ite_f c1 hf
    obtain ⟨c2, hf⟩ := gdp_some hf
    refine W.widen c2.1 c2.2 ?_
    obtain rfl := some_i hf
    exact hend _ rfl _ _ _ _ dX1_must_12 hR hS
  · have hf := ite_t c1 hf
    obtain ⟨c3, hf⟩ := gdp_some hf
    obtain ⟨c4, hf⟩ := gdp_some hf
    refine s_nse (n := n) hx hb hlS hts hown hG hR c3 hS hW (hz k0) (hl.1.trans hml.symm) c4.1 c4.2 (Nat.le_of_ble_eq_true rfl) (Nat.le_of_ble_eq_true rfl) dX1_must_4 dX1_must_7 dX1_must_8 (fun H hR hS => ?_)
    obtain ⟨Km5, eKm5, hf⟩ := lt_some hf
    rw [← eKm5] at hR
    obtain ⟨n6, en6, hf⟩ := lt_some hf
    obtain ⟨u7, eu7, hf⟩ := lt_some hf
    obtain ⟨v8, ev8, hf⟩ := lt_some hf
    refine W.widen (k := u7) (n := v8) (Nat.le_of_eq eu7.symm) (Nat.le_of_eq ev8.symm) ?_
    refine vx_athrow hx hb dX1_must_11 ?_
    obtain ⟨k9, hf⟩ := gdp_some hf
    obtain ⟨c10, hf⟩ := gdp_some hf
    refine vx_widen c10.1 c10.2 ?_
    obtain rfl := some_i hf
    exact hthr _ rfl _ _ _ _ _ k9 hR hS
noncomputable def w1_man_j22 (zz : Nat) (adS : Nat → Nat) (o : Nat) (p1 : Int32) (p2 : Int32) (K : gK) (n : Nat) (j22_s0 : Int32) (j22_I : gI) (j22_J : gJ) (j22_X : gX) (j22_A : gI) (j22_B : gJ) (j22_Q : gX) : Option ((Nat ⊕ Int32) × gK × gI × gJ × gX × gI × gJ × gX × Nat) :=
  gdp (0 + 1 ≤ 1 ∧ 0 + 6 ≤ 6) <|
  (w1_must zz adS j22_s0 K j22_I j22_J j22_X j22_A j22_B j22_Q n).bind fun r7 =>
  trs r7.1 (fun b10 =>
    gdp (r7.2.1 b10 = some (.inl 19)) <|
    gdp ((0 + 1) ≤ 1 ∧ (0 + 6) ≤ 6) <|
    some ((.inl b10), r7.2.1, r7.2.2.1, r7.2.2.2.1, r7.2.2.2.2.1, r7.2.2.2.2.2.1, r7.2.2.2.2.2.2.1, r7.2.2.2.2.2.2.2.1, r7.2.2.2.2.2.2.2.2)
    ) fun v9 =>
  gdp (r7.2.1 o = some (.inl 0)) <|
  lt (r7.2.2.2.2.1 9 o) fun x14 =>
  (x14).bind fun a15 =>
  gdp (r7.2.1 a15 = some (.inl 2)) <|
  lt (r7.2.2.2.2.1 200 a15) fun x17 =>
  (x17).bind fun a18 =>
  gdp (r7.2.1 a18 = some (.inl 3)) <|
  lt (r7.2.2.2.2.1 300 a18) fun x20 =>
  (x20).bind fun a21 =>
  (alen r7.2.1 a21 4).bind fun n22 =>
  gdp (inb p1 n22) <|
  lt (r7.2.2.2.2.2.2.2.1 a21 p1.toNatClampNeg) fun x24 =>
  if p2 = 0 then
    (x24).bind fun a35 =>
    gdp (r7.2.1 a35 = some (.inl 12)) <|
    lt (r7.2.2.1 1201 a35) fun v37 =>
    gdp ((0 + 1) ≤ 1 ∧ (0 + 6) ≤ 6) <|
    some ((.inr v37), r7.2.1, r7.2.2.1, r7.2.2.2.1, r7.2.2.2.2.1, r7.2.2.2.2.2.1, r7.2.2.2.2.2.2.1, r7.2.2.2.2.2.2.2.1, r7.2.2.2.2.2.2.2.2)
  else
    if p2 = (1 : Int32) then
      (x24).bind fun a31 =>
      gdp (r7.2.1 a31 = some (.inl 12)) <|
      lt (r7.2.2.1 1202 a31) fun v33 =>
      gdp ((0 + 1) ≤ 1 ∧ (0 + 6) ≤ 6) <|
      some ((.inr v33), r7.2.1, r7.2.2.1, r7.2.2.2.1, r7.2.2.2.2.1, r7.2.2.2.2.2.1, r7.2.2.2.2.2.2.1, r7.2.2.2.2.2.2.2.1, r7.2.2.2.2.2.2.2.2)
    else
      (x24).bind fun a27 =>
      gdp (r7.2.1 a27 = some (.inl 12)) <|
      lt (r7.2.2.1 1203 a27) fun v29 =>
      gdp ((0 + 1) ≤ 1 ∧ (0 + 6) ≤ 6) <|
      some ((.inr v29), r7.2.1, r7.2.2.1, r7.2.2.2.1, r7.2.2.2.2.1, r7.2.2.2.2.2.1, r7.2.2.2.2.2.2.1, r7.2.2.2.2.2.2.2.1, r7.2.2.2.2.2.2.2.2)

noncomputable def w1_man_j21 (zz : Nat) (adS : Nat → Nat) (o : Nat) (p1 : Int32) (p2 : Int32) (K : gK) (n : Nat) (j21_I : gI) (j21_J : gJ) (j21_X : gX) (j21_A : gI) (j21_B : gJ) (j21_Q : gX) : Option ((Nat ⊕ Int32) × gK × gI × gJ × gX × gI × gJ × gX × Nat) :=
  w1_man_j22 zz adS o p1 p2 K n (0 : Int32) j21_I j21_J j21_X j21_A j21_B j21_Q

noncomputable def w1_man (zz : Nat) (adS : Nat → Nat) (o : Nat) (p1 : Int32) (p2 : Int32) (K : gK) (I : gI) (J : gJ) (X : gX) (A : gI) (B : gJ) (Q : gX) (n : Nat) : Option ((Nat ⊕ Int32) × gK × gI × gJ × gX × gI × gJ × gX × Nat) :=
  gdp (∃ a, K a ≠ none) <|
  (X 200 (o + 7)).bind fun a2 =>
  gdp (Sh K X o 0 rows0) <|
  gdp (Sh K X a2 3 rows3) <|
  gdp (K (o + 7) = some (.inl 2)) <|
  gdp (X 9 o = some (o + 7)) <|
  (f1_isMan p1 (I 303 a2)).bind fun r1 =>
  if r1 = 0 then
    w1_man_j21 zz adS o p1 p2 K n I J X A B Q
  else
    (f1_isIn p2 (0 : Int32) (2 : Int32)).bind fun r40 =>
    if r40 = 0 then
      w1_man_j21 zz adS o p1 p2 K n I J X A B Q
    else
      w1_man_j22 zz adS o p1 p2 K n (1 : Int32) I J X A B Q
set_option maxHeartbeats 4000000 in
theorem m1_man_w (l : Launch) (hlS : l.stackTraces = false) (G : gG) (K : gK) (I : gI) (J : gJ) (X : gX) (A : gI) (B : gJ) (Q : gX) (n : Nat) (o : Nat) (p1 : Int32) (p2 : Int32) (out : (Nat ⊕ Int32) × gK × gI × gJ × gX × gI × gJ × gX × Nat) (hf : w1_man G.2.2 (aK G) o p1 p2 K I J X A B Q n = some out) : GMetX l yX1_man cX1_man 4 (some .int) (9) (140) G [.ref o, .int p1, .int p2] K I J X A B Q (xsi "java/util/NoSuchElementException" out.1) out.2.1 out.2.2.1 out.2.2.2.1 out.2.2.2.2.1 out.2.2.2.2.2.1 out.2.2.2.2.2.2.1 out.2.2.2.2.2.2.2.1 1 6 := by
  refine GMetX.of (y := yX1_man) rfl (Nat.le_of_ble_eq_true rfl) (la := [(0, .ref o), (1, .int p1), (2, .int p2)]) rfl ?_
  intro p e s m below meth c ls hx hb hr hml hlocks hts hown hname ht hG hR hW hl
  have hown : s.vm.findClass RX1 = some m.cls := hown
  have hS : va_S (gA G) s.heap s.heap [] := va_S.rf
  have hz : (∃ a, K a ≠ none) → G.2.2 ≤ s.heap.size := fun ⟨a, h⟩ => Nat.le_of_lt (Nat.lt_of_le_of_lt (hR.ge h) (hR.lt h))
  have hend : ∀ (v : Int32), out.1 = .inr v → ∀ (pc : Nat) (H : Heap) (locs : List Loc) (ls : Array Slot), decode cX1_man pc = .ok (.ireturn, 1) → RS G out.2.1 out.2.2.1 out.2.2.2.1 out.2.2.2.2.1 out.2.2.2.2.2.1 out.2.2.2.2.2.2.1 out.2.2.2.2.2.2.2.1 H → va_S (gA G) s.heap H locs → W p l e ({ frames := 9, cells := 1, slots := 6, locals := 140 } : Room) s m ([.ref o, .int p1, .int p2] : List Value).toArray below meth c H locs 1 6 (vx_MQ below (xQ G (xsi "java/util/NoSuchElementException" out.1) out.2.1 out.2.2.1 out.2.2.2.1 out.2.2.2.2.1 out.2.2.2.2.2.1 out.2.2.2.2.2.2.1 out.2.2.2.2.2.2.2.1) (xX G (xsi "java/util/NoSuchElementException" out.1) out.2.1 out.2.2.1 out.2.2.2.1 out.2.2.2.2.1 out.2.2.2.2.2.1 out.2.2.2.2.2.2.1 out.2.2.2.2.2.2.2.1) ([.ref o, .int p1, .int p2] : List Value).toArray s 1 6 (gA G)) (F0 m pc ls [.int v]) := fun v hv pc H locs ls hd hR hS => x_nret hx hb hr rfl hlocks hG hR hS (by rw [hv]; rfl) hd
  have hthr : ∀ (b : Nat), out.1 = .inl b → ∀ (pc : Nat) (H : Heap) (locs : List Loc) (ls : Array Slot) (rest : List Value), out.2.1 b = some (.inl 19) → RS G out.2.1 out.2.2.1 out.2.2.2.1 out.2.2.2.2.1 out.2.2.2.2.2.1 out.2.2.2.2.2.2.1 out.2.2.2.2.2.2.2.1 H → va_S (gA G) s.heap H locs → vx_W p l e ({ frames := 9, cells := 1, slots := 6, locals := 140 } : Room) s m ([.ref o, .int p1, .int p2] : List Value).toArray below meth c H locs 1 6 (vx_MQ below (xQ G (xsi "java/util/NoSuchElementException" out.1) out.2.1 out.2.2.1 out.2.2.2.1 out.2.2.2.2.1 out.2.2.2.2.2.1 out.2.2.2.2.2.2.1 out.2.2.2.2.2.2.2.1) (xX G (xsi "java/util/NoSuchElementException" out.1) out.2.1 out.2.2.1 out.2.2.2.1 out.2.2.2.2.1 out.2.2.2.2.2.1 out.2.2.2.2.2.2.1 out.2.2.2.2.2.2.2.1) ([.ref o, .int p1, .int p2] : List Value).toArray s 1 6 (gA G)) (F0 m pc ls rest) b := fun b hn pc H locs ls rest hk hR hS => x_out (ci := 19) ht hlocks hG hR hS hk rfl (by rw [hn]; rfl)
  generalize vx_MQ below (xQ G (xsi "java/util/NoSuchElementException" out.1) out.2.1 out.2.2.1 out.2.2.2.1 out.2.2.2.2.1 out.2.2.2.2.2.1 out.2.2.2.2.2.2.1 out.2.2.2.2.2.2.2.1) (xX G (xsi "java/util/NoSuchElementException" out.1) out.2.1 out.2.2.1 out.2.2.2.1 out.2.2.2.2.1 out.2.2.2.2.2.1 out.2.2.2.2.2.2.1 out.2.2.2.2.2.2.2.1) ([.ref o, .int p1, .int p2] : List Value).toArray s 1 6 (gA G) = Z at hend hthr ⊢
  generalize ([.ref o, .int p1, .int p2] : List Value).toArray = args at hts hend hthr ⊢
  unfold w1_man at hf
  obtain ⟨k0, hf⟩ := gdp_some hf
  refine lv_aload_n hx hb dX1_man_0 rfl (lv_at hl 0 rfl) ?_
  refine lv_iload_n hx hb dX1_man_1 rfl (lv_at hl 1 rfl) ?_
  obtain ⟨a2, ha2, hf⟩ := bind_s hf
  obtain ⟨g3, hf⟩ := gdp_some hf
  obtain ⟨g4, hf⟩ := gdp_some hf
  obtain ⟨g5, hf⟩ := gdp_some hf
  obtain ⟨g6, hf⟩ := gdp_some hf
  obtain ⟨r1, hr1, hf⟩ := bind_s hf
  refine g0_cV (rm := (1, 22)) (As := [.int p1]) (rest := []) ⟨hx, hb, hml, hown, hts⟩ hG hR hS (m1_isMan l G K I J X A B Q o a2 g3 g4 g5 ha2 g6 p1 (I 303 a2) rfl r1 hr1) ⟨callB_of 1 hts (lw_meth q1129) rfl rfl rfl (hts _ q103) (hts _ q1126) (by decide +kernel) ⟨Nat.le_of_ble_eq_true rfl, Nat.le_of_ble_eq_true rfl⟩, hts _ q1128, hts _ qs11⟩ g3.1 rfl rfl hl.1 (Nat.le_of_ble_eq_true rfl) dX1_man_2 ⟨Nat.zero_le _, Nat.zero_le _⟩ rfl (fun H locs hR hS => ?_)
  have hj22 : ∀ (j22_s0 : Int32) (j22_I : gI) (j22_J : gJ) (j22_X : gX) (j22_A : gI) (j22_B : gJ) (j22_Q : gX), w1_man_j22 G.2.2 (aK G) o p1 p2 K n j22_s0 j22_I j22_J j22_X j22_A j22_B j22_Q = some out → ∀ (H : Heap) (locs : List Loc) (ls : Array Slot), RS G K j22_I j22_J j22_X j22_A j22_B j22_Q H → va_S (gA G) s.heap H locs → lv_has ls 4 [(0, .ref o), (1, .int p1), (2, .int p2)] → W p l e ({ frames := 9, cells := 1, slots := 6, locals := 140 } : Room) s m args below meth c H locs 0 0 Z (F0 m 22 ls [.int j22_s0]) := by
    intro j22_s0 j22_I j22_J j22_X j22_A j22_B j22_Q hf H locs ls hR hS hl
    unfold w1_man_j22 at hf
    obtain ⟨c8, hf⟩ := gdp_some hf
    obtain ⟨r7, hr7, hf⟩ := bind_s hf
    refine x_gosu (vx_runS (As := [.int j22_s0]) (rest := []) ⟨hx, hb, hml, hown, hts⟩ (m1_must_w l hlS G K j22_I j22_J j22_X j22_A j22_B j22_Q n j22_s0 r7 hr7) ⟨callB_of 1 hts (lw_meth q1572) rfl rfl rfl (hts _ q103) (hts _ q1570) (by decide +kernel) ⟨Nat.le_of_ble_eq_true rfl, Nat.le_of_ble_eq_true rfl⟩, hts _ q1571⟩ (x_preS hG hR hW hS) rfl rfl hl.1 rfl (lv_room (Nat.le_of_ble_eq_true rfl)) dX1_man_22 ⟨c8.1, c8.2⟩) hS (fun b10 H locs hnv9 hR hS => ?_) (fun v9 H locs hvv9 hR hS => ?_)
    · have hf := trs_l hnv9 hf
      obtain ⟨k11, hf⟩ := gdp_some hf
      obtain ⟨c12, hf⟩ := gdp_some hf
      refine vx_widen c12.1 c12.2 ?_
      obtain rfl := some_i hf
      exact hthr _ rfl _ _ _ _ _ k11 hR hS
    have hf := trs_r hvv9 hf
    refine lv_aload_n hx hb dX1_man_25 rfl (lv_at hl 0 rfl) ?_
    obtain ⟨k13, hf⟩ := gdp_some hf
    obtain ⟨x14, ex14, hf⟩ := lt_some hf
    refine g_getx hx hb hts hown hG hR gFx_X1_96_0 k13 dX1_man_26 ?_
    rw [← ex14]
    obtain ⟨a15, ha15, hf⟩ := bind_s hf
    try rw [ha15]
    obtain ⟨k16, hf⟩ := gdp_some hf
    obtain ⟨x17, ex17, hf⟩ := lt_some hf
    refine g_getx hx hb hts hown hG hR gFx_X1_241_2 k16 dX1_man_29 ?_
    rw [← ex17]
    obtain ⟨a18, ha18, hf⟩ := bind_s hf
    try rw [ha18]
    obtain ⟨k19, hf⟩ := gdp_some hf
    obtain ⟨x20, ex20, hf⟩ := lt_some hf
    refine g_getx hx hb hts hown hG hR gFx_X1_283_3 k19 dX1_man_32 ?_
    rw [← ex20]
    refine lv_iload_n hx hb dX1_man_35 rfl (lv_at hl 1 rfl) ?_
    obtain ⟨a21, ha21, hf⟩ := bind_s hf
    try rw [ha21]
    obtain ⟨n22, hn22, hf⟩ := bind_s hf
    have kn22 := alen_k hn22
    obtain ⟨c23, hf⟩ := gdp_some hf
    obtain ⟨x24, ex24, hf⟩ := lt_some hf
    refine g_aald (t := 0) hx hb hG hR kn22 (by decide) c23 dX1_man_36 ?_
    rw [← ex24]
    refine n_astore_n (x := x24) (lv' := [(3, va_rf x24), (0, .ref o), (1, .int p1), (2, .int p2)]) hx hb dX1_man_37 rfl hl (by decide) (by first | rfl | simp [va_rf_c]) (fun ls hl => ?_)
    refine lv_iload_n hx hb dX1_man_38 rfl (lv_at hl 3 rfl) ?_
    refine lv_if_ne (tgt := 49) hx hb dX1_man_39 (by decide) (fun c25 => ?_) (fun c25 => ?_)
    · have hf := ite_f c25 hf
      refine lv_iload_n hx hb dX1_man_49 rfl (lv_at hl 3 rfl) ?_
      refine lv_iconst (v := 1) hx hb dX1_man_50 li_1 ?_
      refine lv_icmp_ne (tgt := 61) hx hb dX1_man_51 (by decide) (fun c26 => ?_) (fun c26 => ?_)
      · have hf := ite_f c26 hf
        refine n_aload_n hx hb dX1_man_61 rfl (lv_at hl 0 rfl) ?_
        obtain ⟨a27, ha27, hf⟩ := bind_s hf
        try rw [ha27]
        obtain ⟨k28, hf⟩ := gdp_some hf
        obtain ⟨v29, ev29, hf⟩ := lt_some hf
        refine n_geti (v := v29) hx hb hts hown hG hR gFi_X1_295_12 k28 ev29.symm dX1_man_62 ?_
        obtain ⟨c30, hf⟩ := gdp_some hf
        refine W.widen c30.1 c30.2 ?_
        obtain rfl := some_i hf
        exact hend _ rfl _ _ _ _ dX1_man_65 hR hS
      · have hf := ite_t c26 hf
        refine n_aload_n hx hb dX1_man_54 rfl (lv_at hl 0 rfl) ?_
        obtain ⟨a31, ha31, hf⟩ := bind_s hf
        try rw [ha31]
        obtain ⟨k32, hf⟩ := gdp_some hf
        obtain ⟨v33, ev33, hf⟩ := lt_some hf
        refine n_geti (v := v33) hx hb hts hown hG hR gFi_X1_292_12 k32 ev33.symm dX1_man_55 ?_
        refine lv_goto (tgt := 65) hx hb dX1_man_58 (by decide) ?_
        obtain ⟨c34, hf⟩ := gdp_some hf
        refine W.widen c34.1 c34.2 ?_
        obtain rfl := some_i hf
        exact hend _ rfl _ _ _ _ dX1_man_65 hR hS
    · have hf := ite_t c25 hf
      refine n_aload_n hx hb dX1_man_42 rfl (lv_at hl 0 rfl) ?_
      obtain ⟨a35, ha35, hf⟩ := bind_s hf
      try rw [ha35]
      obtain ⟨k36, hf⟩ := gdp_some hf
      obtain ⟨v37, ev37, hf⟩ := lt_some hf
      refine n_geti (v := v37) hx hb hts hown hG hR gFi_X1_287_12 k36 ev37.symm dX1_man_43 ?_
      refine lv_goto (tgt := 65) hx hb dX1_man_46 (by decide) ?_
      obtain ⟨c38, hf⟩ := gdp_some hf
      refine W.widen c38.1 c38.2 ?_
      obtain rfl := some_i hf
      exact hend _ rfl _ _ _ _ dX1_man_65 hR hS
  have hj21 : ∀ (j21_I : gI) (j21_J : gJ) (j21_X : gX) (j21_A : gI) (j21_B : gJ) (j21_Q : gX), w1_man_j21 G.2.2 (aK G) o p1 p2 K n j21_I j21_J j21_X j21_A j21_B j21_Q = some out → ∀ (H : Heap) (locs : List Loc) (ls : Array Slot), RS G K j21_I j21_J j21_X j21_A j21_B j21_Q H → va_S (gA G) s.heap H locs → lv_has ls 4 [(0, .ref o), (1, .int p1), (2, .int p2)] → W p l e ({ frames := 9, cells := 1, slots := 6, locals := 140 } : Room) s m args below meth c H locs 0 0 Z (F0 m 21 ls []) := by
    intro j21_I j21_J j21_X j21_A j21_B j21_Q hf H locs ls hR hS hl
    unfold w1_man_j21 at hf
    refine lv_iconst (v := 0) hx hb dX1_man_21 li_0 ?_
    exact hj22 (0 : Int32) j21_I j21_J j21_X j21_A j21_B j21_Q hf _ _ _ hR hS (lv_sub hl [0, 1, 2] rfl)
  refine lv_if_eq (tgt := 21) hx hb dX1_man_5 (by decide) (fun c39 => ?_) (fun c39 => ?_)
  · have hf := ite_t c39 hf
    exact hj21 I J X A B Q hf _ _ _ hR hS (lv_sub hl [0, 1, 2] rfl)
  · have hf := ite_f c39 hf
    refine lv_iload_n hx hb dX1_man_8 rfl (lv_at hl 2 rfl) ?_
    refine lv_iconst (v := 0) hx hb dX1_man_9 li_0 ?_
    refine lv_iconst (v := 2) hx hb dX1_man_10 li_2 ?_
    obtain ⟨r40, hr40, hf⟩ := bind_s hf
    refine g0_cS (rm := (0, 0)) (As := [.int p2, .int (0 : Int32), .int (2 : Int32)]) (rest := []) ⟨hx, hb, hml, hown, hts⟩ hG hR hS (m1_isIn l G K I J X A B Q p2 (0 : Int32) (2 : Int32) r40 hr40) ⟨callB_of 3 hts (lw_meth q862) rfl rfl rfl (hts _ q103) (hts _ q1121) (by decide +kernel) ⟨Nat.le_of_ble_eq_true rfl, Nat.le_of_ble_eq_true rfl⟩, hts _ q861⟩ rfl hl.1 (Nat.le_of_ble_eq_true rfl) dX1_man_11 ⟨Nat.zero_le _, Nat.zero_le _⟩ rfl (fun H locs hR hS => ?_)
    refine lv_if_eq (tgt := 21) hx hb dX1_man_14 (by decide) (fun c41 => ?_) (fun c41 => ?_)
    · have hf := ite_t c41 hf
      exact hj21 I J X A B Q hf _ _ _ hR hS (lv_sub hl [0, 1, 2] rfl)
    · have hf := ite_f c41 hf
      refine lv_iconst (v := 1) hx hb dX1_man_17 li_1 ?_
      refine lv_goto (tgt := 22) hx hb dX1_man_18 (by decide) ?_
      exact hj22 (1 : Int32) I J X A B Q hf _ _ _ hR hS (lv_sub hl [0, 1, 2] rfl)
noncomputable def w1_cell_j29 (zz : Nat) (adS : Nat → Nat) (o : Nat) (p1 : Int32) (p2 : Int32) (p3 : Int32) (K : gK) (n : Nat) (j29_s0 : Int32) (j29_I : gI) (j29_J : gJ) (j29_X : gX) (j29_A : gI) (j29_B : gJ) (j29_Q : gX) : Option ((Nat ⊕ Int32) × gK × gI × gJ × gX × gI × gJ × gX × Nat) :=
  gdp (0 + 1 ≤ 1 ∧ 0 + 6 ≤ 6) <|
  (w1_must zz adS j29_s0 K j29_I j29_J j29_X j29_A j29_B j29_Q n).bind fun r9 =>
  trs r9.1 (fun b12 =>
    gdp (r9.2.1 b12 = some (.inl 19)) <|
    gdp ((0 + 1) ≤ 1 ∧ (0 + 6) ≤ 6) <|
    some ((.inl b12), r9.2.1, r9.2.2.1, r9.2.2.2.1, r9.2.2.2.2.1, r9.2.2.2.2.2.1, r9.2.2.2.2.2.2.1, r9.2.2.2.2.2.2.2.1, r9.2.2.2.2.2.2.2.2)
    ) fun v11 =>
  if p3 = 0 then
    gdp (r9.2.1 o = some (.inl 0)) <|
    lt (r9.2.2.2.2.1 9 o) fun x34 =>
    (x34).bind fun a35 =>
    gdp (r9.2.1 a35 = some (.inl 2)) <|
    lt (r9.2.2.2.2.1 200 a35) fun x37 =>
    (x37).bind fun a38 =>
    gdp (r9.2.1 a38 = some (.inl 3)) <|
    lt (r9.2.2.2.2.1 301 a38) fun x40 =>
    lt ((8 : Int32) * p2) fun v41 =>
    lt (v41 + p1) fun v42 =>
    (x40).bind fun a43 =>
    (alen r9.2.1 a43 0).bind fun n44 =>
    gdp (inb v42 n44) <|
    lt (r9.2.2.2.2.2.1 a43 v42.toNatClampNeg) fun v46 =>
    gdp ((0 + 1) ≤ 1 ∧ (0 + 6) ≤ 6) <|
    some ((.inr v46), r9.2.1, r9.2.2.1, r9.2.2.2.1, r9.2.2.2.2.1, r9.2.2.2.2.2.1, r9.2.2.2.2.2.2.1, r9.2.2.2.2.2.2.2.1, r9.2.2.2.2.2.2.2.2)
  else
    gdp (r9.2.1 o = some (.inl 0)) <|
    lt (r9.2.2.2.2.1 9 o) fun x17 =>
    (x17).bind fun a18 =>
    gdp (r9.2.1 a18 = some (.inl 2)) <|
    lt (r9.2.2.2.2.1 200 a18) fun x20 =>
    (x20).bind fun a21 =>
    gdp (r9.2.1 a21 = some (.inl 3)) <|
    lt (r9.2.2.2.2.1 302 a21) fun x23 =>
    lt ((8 : Int32) * p2) fun v24 =>
    lt (v24 + p1) fun v25 =>
    (x23).bind fun a26 =>
    (alen r9.2.1 a26 1).bind fun n27 =>
    gdp (inb v25 n27) <|
    lt (r9.2.2.2.2.2.1 a26 v25.toNatClampNeg) fun v29 =>
    if v29 = 0 then
      gdp ((0 + 1) ≤ 1 ∧ (0 + 6) ≤ 6) <|
      some ((.inr (0 : Int32)), r9.2.1, r9.2.2.1, r9.2.2.2.1, r9.2.2.2.2.1, r9.2.2.2.2.2.1, r9.2.2.2.2.2.2.1, r9.2.2.2.2.2.2.2.1, r9.2.2.2.2.2.2.2.2)
    else
      gdp ((0 + 1) ≤ 1 ∧ (0 + 6) ≤ 6) <|
      some ((.inr (1 : Int32)), r9.2.1, r9.2.2.1, r9.2.2.2.1, r9.2.2.2.2.1, r9.2.2.2.2.2.1, r9.2.2.2.2.2.2.1, r9.2.2.2.2.2.2.2.1, r9.2.2.2.2.2.2.2.2)

noncomputable def w1_cell_j28 (zz : Nat) (adS : Nat → Nat) (o : Nat) (p1 : Int32) (p2 : Int32) (p3 : Int32) (K : gK) (n : Nat) (j28_I : gI) (j28_J : gJ) (j28_X : gX) (j28_A : gI) (j28_B : gJ) (j28_Q : gX) : Option ((Nat ⊕ Int32) × gK × gI × gJ × gX × gI × gJ × gX × Nat) :=
  w1_cell_j29 zz adS o p1 p2 p3 K n (0 : Int32) j28_I j28_J j28_X j28_A j28_B j28_Q

noncomputable def w1_cell (zz : Nat) (adS : Nat → Nat) (o : Nat) (p1 : Int32) (p2 : Int32) (p3 : Int32) (K : gK) (I : gI) (J : gJ) (X : gX) (A : gI) (B : gJ) (Q : gX) (n : Nat) : Option ((Nat ⊕ Int32) × gK × gI × gJ × gX × gI × gJ × gX × Nat) :=
  gdp (∃ a, K a ≠ none) <|
  gdp (K o = some (.inl 0)) <|
  lt (X 9 o) fun x2 =>
  (x2).bind fun a3 =>
  gdp (K a3 = some (.inl 2)) <|
  lt (X 200 a3) fun x5 =>
  (x5).bind fun a6 =>
  gdp (Sh K X a6 3 rows3) <|
  (f4_isCell p1 p2 (I 304 a6) (I 305 a6)).bind fun r7 =>
  if r7 = 0 then
    w1_cell_j28 zz adS o p1 p2 p3 K n I J X A B Q
  else
    (f1_isIn p3 (0 : Int32) (1 : Int32)).bind fun r49 =>
    if r49 = 0 then
      w1_cell_j28 zz adS o p1 p2 p3 K n I J X A B Q
    else
      w1_cell_j29 zz adS o p1 p2 p3 K n (1 : Int32) I J X A B Q
set_option maxHeartbeats 4000000 in
theorem m1_cell_w (l : Launch) (hlS : l.stackTraces = false) (G : gG) (K : gK) (I : gI) (J : gJ) (X : gX) (A : gI) (B : gJ) (Q : gX) (n : Nat) (o : Nat) (p1 : Int32) (p2 : Int32) (p3 : Int32) (out : (Nat ⊕ Int32) × gK × gI × gJ × gX × gI × gJ × gX × Nat) (hf : w1_cell G.2.2 (aK G) o p1 p2 p3 K I J X A B Q n = some out) : GMetX l yX1_cell cX1_cell 4 (some .int) (9) (140) G [.ref o, .int p1, .int p2, .int p3] K I J X A B Q (xsi "java/util/NoSuchElementException" out.1) out.2.1 out.2.2.1 out.2.2.2.1 out.2.2.2.2.1 out.2.2.2.2.2.1 out.2.2.2.2.2.2.1 out.2.2.2.2.2.2.2.1 1 6 := by
  refine GMetX.of (y := yX1_cell) rfl (Nat.le_of_ble_eq_true rfl) (la := [(0, .ref o), (1, .int p1), (2, .int p2), (3, .int p3)]) rfl ?_
  intro p e s m below meth c ls hx hb hr hml hlocks hts hown hname ht hG hR hW hl
  have hown : s.vm.findClass RX1 = some m.cls := hown
  have hS : va_S (gA G) s.heap s.heap [] := va_S.rf
  have hz : (∃ a, K a ≠ none) → G.2.2 ≤ s.heap.size := fun ⟨a, h⟩ => Nat.le_of_lt (Nat.lt_of_le_of_lt (hR.ge h) (hR.lt h))
  have hend : ∀ (v : Int32), out.1 = .inr v → ∀ (pc : Nat) (H : Heap) (locs : List Loc) (ls : Array Slot), decode cX1_cell pc = .ok (.ireturn, 1) → RS G out.2.1 out.2.2.1 out.2.2.2.1 out.2.2.2.2.1 out.2.2.2.2.2.1 out.2.2.2.2.2.2.1 out.2.2.2.2.2.2.2.1 H → va_S (gA G) s.heap H locs → W p l e ({ frames := 9, cells := 1, slots := 6, locals := 140 } : Room) s m ([.ref o, .int p1, .int p2, .int p3] : List Value).toArray below meth c H locs 1 6 (vx_MQ below (xQ G (xsi "java/util/NoSuchElementException" out.1) out.2.1 out.2.2.1 out.2.2.2.1 out.2.2.2.2.1 out.2.2.2.2.2.1 out.2.2.2.2.2.2.1 out.2.2.2.2.2.2.2.1) (xX G (xsi "java/util/NoSuchElementException" out.1) out.2.1 out.2.2.1 out.2.2.2.1 out.2.2.2.2.1 out.2.2.2.2.2.1 out.2.2.2.2.2.2.1 out.2.2.2.2.2.2.2.1) ([.ref o, .int p1, .int p2, .int p3] : List Value).toArray s 1 6 (gA G)) (F0 m pc ls [.int v]) := fun v hv pc H locs ls hd hR hS => x_nret hx hb hr rfl hlocks hG hR hS (by rw [hv]; rfl) hd
  have hthr : ∀ (b : Nat), out.1 = .inl b → ∀ (pc : Nat) (H : Heap) (locs : List Loc) (ls : Array Slot) (rest : List Value), out.2.1 b = some (.inl 19) → RS G out.2.1 out.2.2.1 out.2.2.2.1 out.2.2.2.2.1 out.2.2.2.2.2.1 out.2.2.2.2.2.2.1 out.2.2.2.2.2.2.2.1 H → va_S (gA G) s.heap H locs → vx_W p l e ({ frames := 9, cells := 1, slots := 6, locals := 140 } : Room) s m ([.ref o, .int p1, .int p2, .int p3] : List Value).toArray below meth c H locs 1 6 (vx_MQ below (xQ G (xsi "java/util/NoSuchElementException" out.1) out.2.1 out.2.2.1 out.2.2.2.1 out.2.2.2.2.1 out.2.2.2.2.2.1 out.2.2.2.2.2.2.1 out.2.2.2.2.2.2.2.1) (xX G (xsi "java/util/NoSuchElementException" out.1) out.2.1 out.2.2.1 out.2.2.2.1 out.2.2.2.2.1 out.2.2.2.2.2.1 out.2.2.2.2.2.2.1 out.2.2.2.2.2.2.2.1) ([.ref o, .int p1, .int p2, .int p3] : List Value).toArray s 1 6 (gA G)) (F0 m pc ls rest) b := fun b hn pc H locs ls rest hk hR hS => x_out (ci := 19) ht hlocks hG hR hS hk rfl (by rw [hn]; rfl)
  generalize vx_MQ below (xQ G (xsi "java/util/NoSuchElementException" out.1) out.2.1 out.2.2.1 out.2.2.2.1 out.2.2.2.2.1 out.2.2.2.2.2.1 out.2.2.2.2.2.2.1 out.2.2.2.2.2.2.2.1) (xX G (xsi "java/util/NoSuchElementException" out.1) out.2.1 out.2.2.1 out.2.2.2.1 out.2.2.2.2.1 out.2.2.2.2.2.1 out.2.2.2.2.2.2.1 out.2.2.2.2.2.2.2.1) ([.ref o, .int p1, .int p2, .int p3] : List Value).toArray s 1 6 (gA G) = Z at hend hthr ⊢
  generalize ([.ref o, .int p1, .int p2, .int p3] : List Value).toArray = args at hts hend hthr ⊢
  unfold w1_cell at hf
  obtain ⟨k0, hf⟩ := gdp_some hf
  refine lv_aload_n hx hb dX1_cell_0 rfl (lv_at hl 0 rfl) ?_
  obtain ⟨k1, hf⟩ := gdp_some hf
  obtain ⟨x2, ex2, hf⟩ := lt_some hf
  refine g_getx hx hb hts hown hG hR gFx_X1_96_0 k1 dX1_cell_1 ?_
  rw [← ex2]
  obtain ⟨a3, ha3, hf⟩ := bind_s hf
  try rw [ha3]
  obtain ⟨k4, hf⟩ := gdp_some hf
  obtain ⟨x5, ex5, hf⟩ := lt_some hf
  refine g_getx hx hb hts hown hG hR gFx_X1_241_2 k4 dX1_cell_4 ?_
  rw [← ex5]
  refine lv_iload_n hx hb dX1_cell_7 rfl (lv_at hl 1 rfl) ?_
  refine lv_iload_n hx hb dX1_cell_8 rfl (lv_at hl 2 rfl) ?_
  obtain ⟨a6, ha6, hf⟩ := bind_s hf
  try rw [ha6]
  obtain ⟨g8, hf⟩ := gdp_some hf
  obtain ⟨r7, hr7, hf⟩ := bind_s hf
  refine g0_cV (rm := (1, 22)) (As := [.int p1, .int p2]) (rest := []) ⟨hx, hb, hml, hown, hts⟩ hG hR hS (m4_isCell l G K I J X A B Q a6 g8 p1 p2 (I 304 a6) (I 305 a6) rfl rfl r7 hr7) ⟨callB_of 2 hts (lw_meth q1109) rfl rfl rfl (hts _ q108) (hts _ q1358) (by decide +kernel) ⟨Nat.le_of_ble_eq_true rfl, Nat.le_of_ble_eq_true rfl⟩, hts _ q1107, hts _ q1108⟩ g8.1 rfl rfl hl.1 (Nat.le_of_ble_eq_true rfl) dX1_cell_9 ⟨Nat.zero_le _, Nat.zero_le _⟩ rfl (fun H locs hR hS => ?_)
  have hj29 : ∀ (j29_s0 : Int32) (j29_I : gI) (j29_J : gJ) (j29_X : gX) (j29_A : gI) (j29_B : gJ) (j29_Q : gX), w1_cell_j29 G.2.2 (aK G) o p1 p2 p3 K n j29_s0 j29_I j29_J j29_X j29_A j29_B j29_Q = some out → ∀ (H : Heap) (locs : List Loc) (ls : Array Slot), RS G K j29_I j29_J j29_X j29_A j29_B j29_Q H → va_S (gA G) s.heap H locs → lv_has ls 4 [(0, .ref o), (1, .int p1), (2, .int p2), (3, .int p3)] → W p l e ({ frames := 9, cells := 1, slots := 6, locals := 140 } : Room) s m args below meth c H locs 0 0 Z (F0 m 29 ls [.int j29_s0]) := by
    intro j29_s0 j29_I j29_J j29_X j29_A j29_B j29_Q hf H locs ls hR hS hl
    unfold w1_cell_j29 at hf
    obtain ⟨c10, hf⟩ := gdp_some hf
    obtain ⟨r9, hr9, hf⟩ := bind_s hf
    refine x_gosu (vx_runS (As := [.int j29_s0]) (rest := []) ⟨hx, hb, hml, hown, hts⟩ (m1_must_w l hlS G K j29_I j29_J j29_X j29_A j29_B j29_Q n j29_s0 r9 hr9) ⟨callB_of 1 hts (lw_meth q1572) rfl rfl rfl (hts _ q103) (hts _ q1570) (by decide +kernel) ⟨Nat.le_of_ble_eq_true rfl, Nat.le_of_ble_eq_true rfl⟩, hts _ q1571⟩ (x_preS hG hR hW hS) rfl rfl hl.1 rfl (lv_room (Nat.le_of_ble_eq_true rfl)) dX1_cell_29 ⟨c10.1, c10.2⟩) hS (fun b12 H locs hnv11 hR hS => ?_) (fun v11 H locs hvv11 hR hS => ?_)
    · have hf := trs_l hnv11 hf
      obtain ⟨k13, hf⟩ := gdp_some hf
      obtain ⟨c14, hf⟩ := gdp_some hf
      refine vx_widen c14.1 c14.2 ?_
      obtain rfl := some_i hf
      exact hthr _ rfl _ _ _ _ _ k13 hR hS
    have hf := trs_r hvv11 hf
    refine lv_iload_n hx hb dX1_cell_32 rfl (lv_at hl 3 rfl) ?_
    refine lv_if_ne (tgt := 56) hx hb dX1_cell_33 (by decide) (fun c15 => ?_) (fun c15 => ?_)
    · have hf := ite_f c15 hf
      refine lv_aload_n hx hb dX1_cell_56 rfl (lv_at hl 0 rfl) ?_
      obtain ⟨k16, hf⟩ := gdp_some hf
      obtain ⟨x17, ex17, hf⟩ := lt_some hf
      refine g_getx hx hb hts hown hG hR gFx_X1_96_0 k16 dX1_cell_57 ?_
      rw [← ex17]
      obtain ⟨a18, ha18, hf⟩ := bind_s hf
      try rw [ha18]
      obtain ⟨k19, hf⟩ := gdp_some hf
      obtain ⟨x20, ex20, hf⟩ := lt_some hf
      refine g_getx hx hb hts hown hG hR gFx_X1_241_2 k19 dX1_cell_60 ?_
      rw [← ex20]
      obtain ⟨a21, ha21, hf⟩ := bind_s hf
      try rw [ha21]
      obtain ⟨k22, hf⟩ := gdp_some hf
      obtain ⟨x23, ex23, hf⟩ := lt_some hf
      refine g_getx hx hb hts hown hG hR gFx_X1_305_3 k22 dX1_cell_63 ?_
      rw [← ex23]
      refine lv_bipush (v := 8) hx hb dX1_cell_66 lb_8 ?_
      refine lv_iload_n hx hb dX1_cell_68 rfl (lv_at hl 2 rfl) ?_
      obtain ⟨v24, ev24, hf⟩ := lt_some hf
      refine n_imul hx hb ev24 dX1_cell_69 ?_
      refine lv_iload_n hx hb dX1_cell_70 rfl (lv_at hl 1 rfl) ?_
      obtain ⟨v25, ev25, hf⟩ := lt_some hf
      refine n_iadd hx hb ev25 dX1_cell_71 ?_
      obtain ⟨a26, ha26, hf⟩ := bind_s hf
      try rw [ha26]
      obtain ⟨n27, hn27, hf⟩ := bind_s hf
      have kn27 := alen_k hn27
      obtain ⟨c28, hf⟩ := gdp_some hf
      obtain ⟨v29, ev29, hf⟩ := lt_some hf
      refine g_zald hx hb hG hR kn27 c28 dX1_cell_72 ?_
      rw [← ev29]
      refine lv_if_eq (tgt := 80) hx hb dX1_cell_73 (by decide) (fun c30 => ?_) (fun c30 => ?_)
      · have hf := ite_t c30 hf
        refine lv_iconst (v := 0) hx hb dX1_cell_80 li_0 ?_
        obtain ⟨c31, hf⟩ := gdp_some hf
        refine W.widen c31.1 c31.2 ?_
        obtain rfl := some_i hf
        exact hend _ rfl _ _ _ _ dX1_cell_81 hR hS
      · have hf := ite_f c30 hf
        refine lv_iconst (v := 1) hx hb dX1_cell_76 li_1 ?_
        refine lv_goto (tgt := 81) hx hb dX1_cell_77 (by decide) ?_
        obtain ⟨c32, hf⟩ := gdp_some hf
        refine W.widen c32.1 c32.2 ?_
        obtain rfl := some_i hf
        exact hend _ rfl _ _ _ _ dX1_cell_81 hR hS
    · have hf := ite_t c15 hf
      refine lv_aload_n hx hb dX1_cell_36 rfl (lv_at hl 0 rfl) ?_
      obtain ⟨k33, hf⟩ := gdp_some hf
      obtain ⟨x34, ex34, hf⟩ := lt_some hf
      refine g_getx hx hb hts hown hG hR gFx_X1_96_0 k33 dX1_cell_37 ?_
      rw [← ex34]
      obtain ⟨a35, ha35, hf⟩ := bind_s hf
      try rw [ha35]
      obtain ⟨k36, hf⟩ := gdp_some hf
      obtain ⟨x37, ex37, hf⟩ := lt_some hf
      refine g_getx hx hb hts hown hG hR gFx_X1_241_2 k36 dX1_cell_40 ?_
      rw [← ex37]
      obtain ⟨a38, ha38, hf⟩ := bind_s hf
      try rw [ha38]
      obtain ⟨k39, hf⟩ := gdp_some hf
      obtain ⟨x40, ex40, hf⟩ := lt_some hf
      refine g_getx hx hb hts hown hG hR gFx_X1_302_3 k39 dX1_cell_43 ?_
      rw [← ex40]
      refine lv_bipush (v := 8) hx hb dX1_cell_46 lb_8 ?_
      refine lv_iload_n hx hb dX1_cell_48 rfl (lv_at hl 2 rfl) ?_
      obtain ⟨v41, ev41, hf⟩ := lt_some hf
      refine n_imul hx hb ev41 dX1_cell_49 ?_
      refine lv_iload_n hx hb dX1_cell_50 rfl (lv_at hl 1 rfl) ?_
      obtain ⟨v42, ev42, hf⟩ := lt_some hf
      refine n_iadd hx hb ev42 dX1_cell_51 ?_
      obtain ⟨a43, ha43, hf⟩ := bind_s hf
      try rw [ha43]
      obtain ⟨n44, hn44, hf⟩ := bind_s hf
      have kn44 := alen_k hn44
      obtain ⟨c45, hf⟩ := gdp_some hf
      obtain ⟨v46, ev46, hf⟩ := lt_some hf
      refine g_iald hx hb hG hR kn44 c45 dX1_cell_52 ?_
      rw [← ev46]
      refine lv_goto (tgt := 81) hx hb dX1_cell_53 (by decide) ?_
      obtain ⟨c47, hf⟩ := gdp_some hf
      refine W.widen c47.1 c47.2 ?_
      obtain rfl := some_i hf
      exact hend _ rfl _ _ _ _ dX1_cell_81 hR hS
  have hj28 : ∀ (j28_I : gI) (j28_J : gJ) (j28_X : gX) (j28_A : gI) (j28_B : gJ) (j28_Q : gX), w1_cell_j28 G.2.2 (aK G) o p1 p2 p3 K n j28_I j28_J j28_X j28_A j28_B j28_Q = some out → ∀ (H : Heap) (locs : List Loc) (ls : Array Slot), RS G K j28_I j28_J j28_X j28_A j28_B j28_Q H → va_S (gA G) s.heap H locs → lv_has ls 4 [(0, .ref o), (1, .int p1), (2, .int p2), (3, .int p3)] → W p l e ({ frames := 9, cells := 1, slots := 6, locals := 140 } : Room) s m args below meth c H locs 0 0 Z (F0 m 28 ls []) := by
    intro j28_I j28_J j28_X j28_A j28_B j28_Q hf H locs ls hR hS hl
    unfold w1_cell_j28 at hf
    refine lv_iconst (v := 0) hx hb dX1_cell_28 li_0 ?_
    exact hj29 (0 : Int32) j28_I j28_J j28_X j28_A j28_B j28_Q hf _ _ _ hR hS (lv_sub hl [0, 1, 2, 3] rfl)
  refine lv_if_eq (tgt := 28) hx hb dX1_cell_12 (by decide) (fun c48 => ?_) (fun c48 => ?_)
  · have hf := ite_t c48 hf
    exact hj28 I J X A B Q hf _ _ _ hR hS (lv_sub hl [0, 1, 2, 3] rfl)
  · have hf := ite_f c48 hf
    refine lv_iload_n hx hb dX1_cell_15 rfl (lv_at hl 3 rfl) ?_
    refine lv_iconst (v := 0) hx hb dX1_cell_16 li_0 ?_
    refine lv_iconst (v := 1) hx hb dX1_cell_17 li_1 ?_
    obtain ⟨r49, hr49, hf⟩ := bind_s hf
    refine g0_cS (rm := (0, 0)) (As := [.int p3, .int (0 : Int32), .int (1 : Int32)]) (rest := []) ⟨hx, hb, hml, hown, hts⟩ hG hR hS (m1_isIn l G K I J X A B Q p3 (0 : Int32) (1 : Int32) r49 hr49) ⟨callB_of 3 hts (lw_meth q862) rfl rfl rfl (hts _ q103) (hts _ q1121) (by decide +kernel) ⟨Nat.le_of_ble_eq_true rfl, Nat.le_of_ble_eq_true rfl⟩, hts _ q861⟩ rfl hl.1 (Nat.le_of_ble_eq_true rfl) dX1_cell_18 ⟨Nat.zero_le _, Nat.zero_le _⟩ rfl (fun H locs hR hS => ?_)
    refine lv_if_eq (tgt := 28) hx hb dX1_cell_21 (by decide) (fun c50 => ?_) (fun c50 => ?_)
    · have hf := ite_t c50 hf
      exact hj28 I J X A B Q hf _ _ _ hR hS (lv_sub hl [0, 1, 2, 3] rfl)
    · have hf := ite_f c50 hf
      refine lv_iconst (v := 1) hx hb dX1_cell_24 li_1 ?_
      refine lv_goto (tgt := 29) hx hb dX1_cell_25 (by decide) ?_
      exact hj29 (1 : Int32) I J X A B Q hf _ _ _ hR hS (lv_sub hl [0, 1, 2, 3] rfl)
