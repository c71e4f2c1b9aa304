/-! makers: the walks (printed by tools) 3 -/
set_option maxRecDepth 100000
noncomputable def w1_cost_j43 (zz : Nat) (adS : Nat → Nat) (o : Nat) (p1 : Int32) (p2 : Int32) (K : gK) (n : Nat) (j43_s0 : Int32) (j43_I : gI) (j43_J : gJ) (j43_X : gX) (j43_A : gI) (j43_B : gJ) (j43_Q : gX) : Option ((Nat ⊕ Int32) × gK × gI × gJ × gX × gI × gJ × gX × Nat) :=
  gdp (0 + 1 ≤ 1 ∧ 0 + 6 ≤ 6) <|
  (w1_must zz adS j43_s0 K j43_I j43_J j43_X j43_A j43_B j43_Q n).bind fun r2 =>
  trs r2.1 (fun b5 =>
    gdp (r2.2.1 b5 = some (.inl 19)) <|
    gdp ((0 + 1) ≤ 1 ∧ (0 + 6) ≤ 6) <|
    some ((.inl b5), r2.2.1, r2.2.2.1, r2.2.2.2.1, r2.2.2.2.2.1, r2.2.2.2.2.2.1, r2.2.2.2.2.2.2.1, r2.2.2.2.2.2.2.2.1, r2.2.2.2.2.2.2.2.2)
    ) fun v4 =>
  gdp ((0 + 1) ≤ 1 ∧ (0 + 6) ≤ 6) <|
  gdp (Sh r2.2.1 r2.2.2.2.2.1 o 0 rows0) <|
  (f1_taken (r2.2.2.1 1 o) (r2.2.2.1 2 o)).bind fun r8 =>
  lt ((ov r2.2.2.1 [(1, o, r8.1), (2, o, r8.2)])) fun Im11 =>
  gdp (r2.2.1 o = some (.inl 0)) <|
  lt (r2.2.2.2.2.1 17 o) fun x13 =>
  lt (Im11 18 o) fun v14 =>
  lt (r2.2.2.2.2.1 9 o) fun x15 =>
  (x15).bind fun a16 =>
  gdp (r2.2.1 a16 = some (.inl 2)) <|
  lt (r2.2.2.2.2.1 200 a16) fun x18 =>
  (x18).bind fun a19 =>
  gdp (r2.2.1 a19 = some (.inl 3)) <|
  lt (Im11 310 a19) fun v21 =>
  (x13).bind fun a22 =>
  (alen r2.2.1 a22 0).bind fun n24 =>
  (r2.2.2.2.2.1 200 (o + 7)).bind fun a25 =>
  gdp (Sh r2.2.1 r2.2.2.2.2.1 a25 3 rows3) <|
  gdp (Sh r2.2.1 r2.2.2.2.2.1 (o + 16) 7 rows7) <|
  gdp (r2.2.1 (o + 7) = some (.inl 2)) <|
  gdp (r2.2.2.2.2.1 13 o = some (o + 16)) <|
  gdp (r2.2.2.2.2.1 9 o = some (o + 7)) <|
  gdp (o + 37 < a22 ∨ a22 < o + 16) <|
  gdp (∀ j, j < 12 → r2.2.1 (o + 25 + j) = some (.inr (0, 30)) ∧ r2.2.2.2.2.2.2.2.1 (o + 24) j = some (o + 25 + j)) <|
  gdp (∀ (j m : Nat), (r2.2.2.2.2.2.2.2.1 (a25 + 1)) j = some m → r2.2.1 m = some (.inl 12)) <|
  (f1_rows v14 p2 v21 n24 (Im11 306 a25) (Im11 307 a25) (Im11 308 a25) (Im11 309 a25) (Im11 311 a25) (Im11 312 a25) (Im11 313 a25) (Im11 702 (o + 16)) (Im11 703 (o + 16)) (Im11 704 (o + 16)) (Im11 705 (o + 16)) (Im11 714 (o + 16)) (Im11 715 (o + 16)) (Im11 716 (o + 16)) (Im11 717 (o + 16)) (Im11 718 (o + 16)) (r2.2.2.2.2.2.1 (o + 17)) (r2.2.2.2.2.2.1 (o + 18)) (r2.2.2.2.2.2.1 (o + 19)) (r2.2.2.2.2.2.1 (o + 20)) (r2.2.2.2.2.2.1 (o + 21)) (r2.2.2.2.2.2.1 (o + 22)) (r2.2.2.2.2.2.1 (o + 23)) (r2.2.2.2.2.2.1 (o + 37)) (r2.2.2.2.2.2.1 a22) (r2.2.2.2.2.2.2.2.1 (a25 + 1)) (Im11 1201) (Im11 1203) (fun j => r2.2.2.2.2.2.1 ((o + 25) + j))).bind fun r23 =>
  lt ((ov Im11 [(702, (o + 16), r23.2.1), (703, (o + 16), r23.2.2.1), (704, (o + 16), r23.2.2.2.1), (705, (o + 16), r23.2.2.2.2.1), (714, (o + 16), r23.2.2.2.2.2.1), (715, (o + 16), r23.2.2.2.2.2.2.1), (716, (o + 16), r23.2.2.2.2.2.2.2.1), (717, (o + 16), r23.2.2.2.2.2.2.2.2.1), (718, (o + 16), r23.2.2.2.2.2.2.2.2.2.1)])) fun Im34 =>
  lt ((ov r2.2.2.2.2.1 [(701, (o + 16), (some a25))])) fun Xm35 =>
  lt ((ova (ovg r2.2.2.2.2.2.1 (o + 25) 12 r23.2.2.2.2.2.2.2.2.2.2.2.2.2.2.2.2.2.2) [((o + 17), r23.2.2.2.2.2.2.2.2.2.2.1), ((o + 18), r23.2.2.2.2.2.2.2.2.2.2.2.1), ((o + 19), r23.2.2.2.2.2.2.2.2.2.2.2.2.1), ((o + 20), r23.2.2.2.2.2.2.2.2.2.2.2.2.2.1), ((o + 21), r23.2.2.2.2.2.2.2.2.2.2.2.2.2.2.1), ((o + 22), r23.2.2.2.2.2.2.2.2.2.2.2.2.2.2.2.1), ((o + 23), r23.2.2.2.2.2.2.2.2.2.2.2.2.2.2.2.2.1), ((o + 37), r23.2.2.2.2.2.2.2.2.2.2.2.2.2.2.2.2.2.1), (a22, (r2.2.2.2.2.2.1 a22))])) fun Am36 =>
  lt (Xm35 17 o) fun x37 =>
  lt (Im34 18 o) fun v38 =>
  lt ((60 : Int32) * p1) fun v39 =>
  (x37).bind fun a40 =>
  (alen r2.2.1 a40 0).bind fun n42 =>
  (Xm35 200 (o + 7)).bind fun a43 =>
  gdp (Sh r2.2.1 Xm35 o 0 rows0) <|
  gdp (Sh r2.2.1 Xm35 a43 3 rows3) <|
  gdp (Sh r2.2.1 Xm35 (o + 60) 8 rows8) <|
  gdp (Xm35 15 o = some (o + 60)) <|
  gdp (Xm35 9 o = some (o + 7)) <|
  gdp (o + 64 < a40 ∨ a40 < o + 60) <|
  gdp (∀ (j m : Nat), (r2.2.2.2.2.2.2.2.1 (a43 + 1)) j = some m → r2.2.1 m = some (.inl 12)) <|
  (f1_runs v38 v39 n42 (Im34 306 a43) (Im34 307 a43) (Im34 308 a43) (Im34 309 a43) (Im34 310 a43) (Im34 802 (o + 60)) (Im34 803 (o + 60)) (Im34 804 (o + 60)) (Im34 805 (o + 60)) (Im34 809 (o + 60)) (Am36 (o + 61)) (Am36 (o + 62)) (Am36 (o + 63)) (Am36 (o + 64)) (Am36 a40) (r2.2.2.2.2.2.2.2.1 (a43 + 1)) (Im34 1202)).bind fun r41 =>
  lt ((ov Im34 [(802, (o + 60), r41.2.1), (803, (o + 60), r41.2.2.1), (804, (o + 60), r41.2.2.2.1), (805, (o + 60), r41.2.2.2.2.1), (809, (o + 60), r41.2.2.2.2.2.1)])) fun Im51 =>
  lt ((ov Xm35 [(801, (o + 60), (some a43))])) fun Xm52 =>
  lt ((ova Am36 [((o + 61), r41.2.2.2.2.2.2.1), ((o + 62), r41.2.2.2.2.2.2.2.1), ((o + 63), r41.2.2.2.2.2.2.2.2.1), ((o + 64), r41.2.2.2.2.2.2.2.2.2), (a40, (Am36 a40))])) fun Am53 =>
  lt (r23.1 - r41.1) fun v54 =>
  lt (Xm52 17 o) fun x55 =>
  lt (Im51 18 o) fun v56 =>
  lt ((60 : Int32) * p1) fun v57 =>
  lt (p2 - v57) fun v58 =>
  lt (Xm52 15 o) fun x59 =>
  (x59).bind fun a60 =>
  gdp (r2.2.1 a60 = some (.inl 8)) <|
  lt (Im51 803 a60) fun v62 =>
  (x55).bind fun a63 =>
  (alen r2.2.1 a63 0).bind fun n65 =>
  (Xm52 200 (o + 7)).bind fun a66 =>
  gdp (Sh r2.2.1 Xm52 o 0 rows0) <|
  gdp (Sh r2.2.1 Xm52 a66 3 rows3) <|
  gdp (Sh r2.2.1 Xm52 (o + 16) 7 rows7) <|
  gdp (Xm52 13 o = some (o + 16)) <|
  gdp (Xm52 9 o = some (o + 7)) <|
  gdp (o + 37 < a63 ∨ a63 < o + 16) <|
  gdp (∀ (j m : Nat), (r2.2.2.2.2.2.2.2.1 (a66 + 1)) j = some m → r2.2.1 m = some (.inl 12)) <|
  (f1_rows v56 v58 v62 n65 (Im51 306 a66) (Im51 307 a66) (Im51 308 a66) (Im51 309 a66) (Im51 311 a66) (Im51 312 a66) (Im51 313 a66) (Im51 702 (o + 16)) (Im51 703 (o + 16)) (Im51 704 (o + 16)) (Im51 705 (o + 16)) (Im51 714 (o + 16)) (Im51 715 (o + 16)) (Im51 716 (o + 16)) (Im51 717 (o + 16)) (Im51 718 (o + 16)) (Am53 (o + 17)) (Am53 (o + 18)) (Am53 (o + 19)) (Am53 (o + 20)) (Am53 (o + 21)) (Am53 (o + 22)) (Am53 (o + 23)) (Am53 (o + 37)) (Am53 a63) (r2.2.2.2.2.2.2.2.1 (a66 + 1)) (Im51 1201) (Im51 1203) (fun j => Am53 ((o + 25) + j))).bind fun r64 =>
  lt ((ov Im51 [(702, (o + 16), r64.2.1), (703, (o + 16), r64.2.2.1), (704, (o + 16), r64.2.2.2.1), (705, (o + 16), r64.2.2.2.2.1), (714, (o + 16), r64.2.2.2.2.2.1), (715, (o + 16), r64.2.2.2.2.2.2.1), (716, (o + 16), r64.2.2.2.2.2.2.2.1), (717, (o + 16), r64.2.2.2.2.2.2.2.2.1), (718, (o + 16), r64.2.2.2.2.2.2.2.2.2.1)])) fun Im74 =>
  lt ((ov Xm52 [(701, (o + 16), (some a66))])) fun Xm75 =>
  lt ((ova (ovg Am53 (o + 25) 12 r64.2.2.2.2.2.2.2.2.2.2.2.2.2.2.2.2.2.2) [((o + 17), r64.2.2.2.2.2.2.2.2.2.2.1), ((o + 18), r64.2.2.2.2.2.2.2.2.2.2.2.1), ((o + 19), r64.2.2.2.2.2.2.2.2.2.2.2.2.1), ((o + 20), r64.2.2.2.2.2.2.2.2.2.2.2.2.2.1), ((o + 21), r64.2.2.2.2.2.2.2.2.2.2.2.2.2.2.1), ((o + 22), r64.2.2.2.2.2.2.2.2.2.2.2.2.2.2.2.1), ((o + 23), r64.2.2.2.2.2.2.2.2.2.2.2.2.2.2.2.2.1), ((o + 37), r64.2.2.2.2.2.2.2.2.2.2.2.2.2.2.2.2.2.1), (a63, (Am53 a63))])) fun Am76 =>
  lt (v54 - r64.1) fun v77 =>
  gdp ((0 + 1) ≤ 1 ∧ (0 + 6) ≤ 6) <|
  some ((.inr v77), r2.2.1, Im74, r2.2.2.2.1, Xm75, Am76, r2.2.2.2.2.2.2.1, r2.2.2.2.2.2.2.2.1, r2.2.2.2.2.2.2.2.2)

noncomputable def w1_cost_j42 (zz : Nat) (adS : Nat → Nat) (o : Nat) (p1 : Int32) (p2 : Int32) (K : gK) (n : Nat) (j42_I : gI) (j42_J : gJ) (j42_X : gX) (j42_A : gI) (j42_B : gJ) (j42_Q : gX) : Option ((Nat ⊕ Int32) × gK × gI × gJ × gX × gI × gJ × gX × Nat) :=
  w1_cost_j43 zz adS o p1 p2 K n (0 : Int32) j42_I j42_J j42_X j42_A j42_B j42_Q

noncomputable def w1_cost (zz : Nat) (adS : Nat → Nat) (o : Nat) (p1 : Int32) (p2 : Int32) (K : gK) (I : gI) (J : gJ) (X : gX) (A : gI) (B : gJ) (Q : gX) (n : Nat) : Option ((Nat ⊕ Int32) × gK × gI × gJ × gX × gI × gJ × gX × Nat) :=
  gdp (∃ a, K a ≠ none) <|
  (f1_isIn p1 (0 : Int32) (60 : Int32)).bind fun r1 =>
  if r1 = 0 then
    w1_cost_j42 zz adS o p1 p2 K n I J X A B Q
  else
    lt ((60 : Int32) * p1) fun v80 =>
    (f1_isIn p2 v80 (3600 : Int32)).bind fun r81 =>
    if r81 = 0 then
      w1_cost_j42 zz adS o p1 p2 K n I J X A B Q
    else
      gdp (K o = some (.inl 0)) <|
      lt (I 1 o) fun v84 =>
      (X 200 (o + 7)).bind fun a86 =>
      gdp (Sh K X o 0 rows0) <|
      gdp (Sh K X a86 3 rows3) <|
      gdp (K (o + 7) = some (.inl 2)) <|
      gdp (X 9 o = some (o + 7)) <|
      (f1_areAsked (2 : Int32) (12 : Int32) v84 (I 18 o) (I 303 a86) (A (o + 1)) (A (o + 70))).bind fun r85 =>
      lt ((ov I [(18, o, r85.2.1)])) fun Im91 =>
      lt ((ova A [((o + 1), (A (o + 1))), ((o + 70), r85.2.2)])) fun Am92 =>
      if r85.1 = 0 then
        w1_cost_j42 zz adS o p1 p2 K n Im91 J X Am92 B Q
      else
        w1_cost_j43 zz adS o p1 p2 K n (1 : Int32) Im91 J X Am92 B Q
set_option maxHeartbeats 4000000 in
theorem m1_cost_w (l : Launch) (hlS : l.stackTraces = false) (G : gG) (K : gK) (I : gI) (J : gJ) (X : gX) (A : gI) (B : gJ) (Q : gX) (n : Nat) (o : Nat) (p1 : Int32) (p2 : Int32) (out : (Nat ⊕ Int32) × gK × gI × gJ × gX × gI × gJ × gX × Nat) (hf : w1_cost G.2.2 (aK G) o p1 p2 K I J X A B Q n = some out) : GMetX l yX1_cost cX1_cost 5 (some .int) (9) (140) G [.ref o, .int p1, .int p2] K I J X A B Q (xsi "java/util/NoSuchElementException" out.1) out.2.1 out.2.2.1 out.2.2.2.1 out.2.2.2.2.1 out.2.2.2.2.2.1 out.2.2.2.2.2.2.1 out.2.2.2.2.2.2.2.1 1 6 := by
  refine GMetX.of (y := yX1_cost) rfl (Nat.le_of_ble_eq_true rfl) (la := [(0, .ref o), (1, .int p1), (2, .int p2)]) rfl ?_
  intro p e s m below meth c ls hx hb hr hml hlocks hts hown hname ht hG hR hW hl
  have hown : s.vm.findClass RX1 = some m.cls := hown
  have hS : va_S (gA G) s.heap s.heap [] := va_S.rf
  have hz : (∃ a, K a ≠ none) → G.2.2 ≤ s.heap.size := fun ⟨a, h⟩ => Nat.le_of_lt (Nat.lt_of_le_of_lt (hR.ge h) (hR.lt h))
  have hend : ∀ (v : Int32), out.1 = .inr v → ∀ (pc : Nat) (H : Heap) (locs : List Loc) (ls : Array Slot), decode cX1_cost pc = .ok (.ireturn, 1) → RS G out.2.1 out.2.2.1 out.2.2.2.1 out.2.2.2.2.1 out.2.2.2.2.2.1 out.2.2.2.2.2.2.1 out.2.2.2.2.2.2.2.1 H → va_S (gA G) s.heap H locs → W p l e ({ frames := 9, cells := 1, slots := 6, locals := 140 } : Room) s m ([.ref o, .int p1, .int p2] : List Value).toArray below meth c H locs 1 6 (vx_MQ below (xQ G (xsi "java/util/NoSuchElementException" out.1) out.2.1 out.2.2.1 out.2.2.2.1 out.2.2.2.2.1 out.2.2.2.2.2.1 out.2.2.2.2.2.2.1 out.2.2.2.2.2.2.2.1) (xX G (xsi "java/util/NoSuchElementException" out.1) out.2.1 out.2.2.1 out.2.2.2.1 out.2.2.2.2.1 out.2.2.2.2.2.1 out.2.2.2.2.2.2.1 out.2.2.2.2.2.2.2.1) ([.ref o, .int p1, .int p2] : List Value).toArray s 1 6 (gA G)) (F0 m pc ls [.int v]) := fun v hv pc H locs ls hd hR hS => x_nret hx hb hr rfl hlocks hG hR hS (by rw [hv]; rfl) hd
  have hthr : ∀ (b : Nat), out.1 = .inl b → ∀ (pc : Nat) (H : Heap) (locs : List Loc) (ls : Array Slot) (rest : List Value), out.2.1 b = some (.inl 19) → RS G out.2.1 out.2.2.1 out.2.2.2.1 out.2.2.2.2.1 out.2.2.2.2.2.1 out.2.2.2.2.2.2.1 out.2.2.2.2.2.2.2.1 H → va_S (gA G) s.heap H locs → vx_W p l e ({ frames := 9, cells := 1, slots := 6, locals := 140 } : Room) s m ([.ref o, .int p1, .int p2] : List Value).toArray below meth c H locs 1 6 (vx_MQ below (xQ G (xsi "java/util/NoSuchElementException" out.1) out.2.1 out.2.2.1 out.2.2.2.1 out.2.2.2.2.1 out.2.2.2.2.2.1 out.2.2.2.2.2.2.1 out.2.2.2.2.2.2.2.1) (xX G (xsi "java/util/NoSuchElementException" out.1) out.2.1 out.2.2.1 out.2.2.2.1 out.2.2.2.2.1 out.2.2.2.2.2.1 out.2.2.2.2.2.2.1 out.2.2.2.2.2.2.2.1) ([.ref o, .int p1, .int p2] : List Value).toArray s 1 6 (gA G)) (F0 m pc ls rest) b := fun b hn pc H locs ls rest hk hR hS => x_out (ci := 19) ht hlocks hG hR hS hk rfl (by rw [hn]; rfl)
  generalize vx_MQ below (xQ G (xsi "java/util/NoSuchElementException" out.1) out.2.1 out.2.2.1 out.2.2.2.1 out.2.2.2.2.1 out.2.2.2.2.2.1 out.2.2.2.2.2.2.1 out.2.2.2.2.2.2.2.1) (xX G (xsi "java/util/NoSuchElementException" out.1) out.2.1 out.2.2.1 out.2.2.2.1 out.2.2.2.2.1 out.2.2.2.2.2.1 out.2.2.2.2.2.2.1 out.2.2.2.2.2.2.2.1) ([.ref o, .int p1, .int p2] : List Value).toArray s 1 6 (gA G) = Z at hend hthr ⊢
  generalize ([.ref o, .int p1, .int p2] : List Value).toArray = args at hts hend hthr ⊢
  unfold w1_cost at hf
  obtain ⟨k0, hf⟩ := gdp_some hf
  refine lv_iload_n hx hb dX1_cost_0 rfl (lv_at hl 1 rfl) ?_
  refine lv_iconst (v := 0) hx hb dX1_cost_1 li_0 ?_
  refine lv_bipush (v := 60) hx hb dX1_cost_2 lb_60 ?_
  obtain ⟨r1, hr1, hf⟩ := bind_s hf
  refine g0_cS (rm := (0, 0)) (As := [.int p1, .int (0 : Int32), .int (60 : Int32)]) (rest := []) ⟨hx, hb, hml, hown, hts⟩ hG hR hS (m1_isIn l G K I J X A B Q p1 (0 : Int32) (60 : Int32) r1 hr1) ⟨callB_of 3 hts (lw_meth q862) rfl rfl rfl (hts _ q103) (hts _ q1121) (by decide +kernel) ⟨Nat.le_of_ble_eq_true rfl, Nat.le_of_ble_eq_true rfl⟩, hts _ q861⟩ rfl hl.1 (Nat.le_of_ble_eq_true rfl) dX1_cost_4 ⟨Nat.zero_le _, Nat.zero_le _⟩ rfl (fun H locs hR hS => ?_)
  have hj43 : ∀ (j43_s0 : Int32) (j43_I : gI) (j43_J : gJ) (j43_X : gX) (j43_A : gI) (j43_B : gJ) (j43_Q : gX), w1_cost_j43 G.2.2 (aK G) o p1 p2 K n j43_s0 j43_I j43_J j43_X j43_A j43_B j43_Q = some out → ∀ (H : Heap) (locs : List Loc) (ls : Array Slot), RS G K j43_I j43_J j43_X j43_A j43_B j43_Q H → va_S (gA G) s.heap H locs → lv_has ls 5 [(0, .ref o), (1, .int p1), (2, .int p2)] → W p l e ({ frames := 9, cells := 1, slots := 6, locals := 140 } : Room) s m args below meth c H locs 0 0 Z (F0 m 43 ls [.int j43_s0]) := by
    intro j43_s0 j43_I j43_J j43_X j43_A j43_B j43_Q hf H locs ls hR hS hl
    unfold w1_cost_j43 at hf
    obtain ⟨c3, hf⟩ := gdp_some hf
    obtain ⟨r2, hr2, hf⟩ := bind_s hf
    refine x_gosu (vx_runS (As := [.int j43_s0]) (rest := []) ⟨hx, hb, hml, hown, hts⟩ (m1_must_w l hlS G K j43_I j43_J j43_X j43_A j43_B j43_Q n j43_s0 r2 hr2) ⟨callB_of 1 hts (lw_meth q1572) rfl rfl rfl (hts _ q103) (hts _ q1570) (by decide +kernel) ⟨Nat.le_of_ble_eq_true rfl, Nat.le_of_ble_eq_true rfl⟩, hts _ q1571⟩ (x_preS hG hR hW hS) rfl rfl hl.1 rfl (lv_room (Nat.le_of_ble_eq_true rfl)) dX1_cost_43 ⟨c3.1, c3.2⟩) hS (fun b5 H locs hnv4 hR hS => ?_) (fun v4 H locs hvv4 hR hS => ?_)
    · have hf := trs_l hnv4 hf
      obtain ⟨k6, hf⟩ := gdp_some hf
      obtain ⟨c7, hf⟩ := gdp_some hf
      refine vx_widen c7.1 c7.2 ?_
      obtain rfl := some_i hf
      exact hthr _ rfl _ _ _ _ _ k6 hR hS
    have hf := trs_r hvv4 hf
    refine lv_aload_n hx hb dX1_cost_46 rfl (lv_at hl 0 rfl) ?_
    obtain ⟨c9, hf⟩ := gdp_some hf
    obtain ⟨g10, hf⟩ := gdp_some hf
    obtain ⟨r8, hr8, hf⟩ := bind_s hf
    refine g0_cVv (rm := (0, 0)) (As := []) (rest := []) ⟨hx, hb, hml, hown, hts⟩ hG hR hS (m1_taken l G r2.2.1 r2.2.2.1 r2.2.2.2.1 r2.2.2.2.2.1 r2.2.2.2.2.2.1 r2.2.2.2.2.2.2.1 r2.2.2.2.2.2.2.2.1 o g10 (r2.2.2.1 1 o) (r2.2.2.1 2 o) rfl rfl r8 hr8) ⟨callB_of 0 hts (lw_meth q832) rfl rfl rfl (hts _ q103) (hts _ q829) (by decide +kernel) ⟨Nat.le_of_ble_eq_true rfl, Nat.le_of_ble_eq_true rfl⟩, hts _ q831, hts _ qs2⟩ g10.1 rfl rfl hl.1 (Nat.le_of_ble_eq_true rfl) dX1_cost_47 ⟨c9.1, c9.2⟩ rfl (fun H locs hR hS => ?_)
    obtain ⟨Im11, eIm11, hf⟩ := lt_some hf
    rw [← eIm11] at hR
    refine lv_aload_n hx hb dX1_cost_50 rfl (lv_at hl 0 rfl) ?_
    refine lv_aload_n hx hb dX1_cost_51 rfl (lv_at hl 0 rfl) ?_
    obtain ⟨k12, hf⟩ := gdp_some hf
    obtain ⟨x13, ex13, hf⟩ := lt_some hf
    refine g_getx hx hb hts hown hG hR gFx_X1_135_0 k12 dX1_cost_52 ?_
    rw [← ex13]
    refine lv_aload_n hx hb dX1_cost_55 rfl (lv_at hl 0 rfl) ?_
    obtain ⟨v14, ev14, hf⟩ := lt_some hf
    refine n_geti (v := v14) hx hb hts hown hG hR gFi_X1_308_0 k12 ev14.symm dX1_cost_56 ?_
    refine lv_iload_n hx hb dX1_cost_59 rfl (lv_at hl 2 rfl) ?_
    refine lv_aload_n hx hb dX1_cost_60 rfl (lv_at hl 0 rfl) ?_
    obtain ⟨x15, ex15, hf⟩ := lt_some hf
    refine g_getx hx hb hts hown hG hR gFx_X1_96_0 k12 dX1_cost_61 ?_
    rw [← ex15]
    obtain ⟨a16, ha16, hf⟩ := bind_s hf
    try rw [ha16]
    obtain ⟨k17, hf⟩ := gdp_some hf
    obtain ⟨x18, ex18, hf⟩ := lt_some hf
    refine g_getx hx hb hts hown hG hR gFx_X1_241_2 k17 dX1_cost_64 ?_
    rw [← ex18]
    obtain ⟨a19, ha19, hf⟩ := bind_s hf
    try rw [ha19]
    obtain ⟨k20, hf⟩ := gdp_some hf
    obtain ⟨v21, ev21, hf⟩ := lt_some hf
    refine n_geti (v := v21) hx hb hts hown hG hR gFi_X1_321_3 k20 ev21.symm dX1_cost_67 ?_
    obtain ⟨a22, ha22, hf⟩ := bind_s hf
    try rw [ha22]
    obtain ⟨n24, hn24, hf⟩ := bind_s hf
    have kn24 := alen_k hn24
    obtain ⟨a25, ha25, hf⟩ := bind_s hf
    obtain ⟨g26, hf⟩ := gdp_some hf
    obtain ⟨g27, hf⟩ := gdp_some hf
    obtain ⟨g28, hf⟩ := gdp_some hf
    obtain ⟨g29, hf⟩ := gdp_some hf
    obtain ⟨g30, hf⟩ := gdp_some hf
    obtain ⟨g31, hf⟩ := gdp_some hf
    obtain ⟨g32, hf⟩ := gdp_some hf
    obtain ⟨g33, hf⟩ := gdp_some hf
    obtain ⟨r23, hr23, hf⟩ := bind_s hf
    refine g0_cV (rm := (5, 108)) (As := [.ref a22, .int v14, .int p2, .int v21]) (rest := []) ⟨hx, hb, hml, hown, hts⟩ hG hR hS (m1_rows l G r2.2.1 Im11 r2.2.2.2.1 r2.2.2.2.2.1 r2.2.2.2.2.2.1 r2.2.2.2.2.2.2.1 r2.2.2.2.2.2.2.2.1 o a25 g10 g26 g27 g28 ha25 g29 g30 a22 n24 kn24 g31 g32 v14 p2 v21 (Im11 306 a25) (Im11 307 a25) (Im11 308 a25) (Im11 309 a25) (Im11 311 a25) (Im11 312 a25) (Im11 313 a25) (Im11 702 (o + 16)) (Im11 703 (o + 16)) (Im11 704 (o + 16)) (Im11 705 (o + 16)) (Im11 714 (o + 16)) (Im11 715 (o + 16)) (Im11 716 (o + 16)) (Im11 717 (o + 16)) (Im11 718 (o + 16)) (r2.2.2.2.2.1 701 (o + 16)) (r2.2.2.2.2.2.1 (o + 17)) (r2.2.2.2.2.2.1 (o + 18)) (r2.2.2.2.2.2.1 (o + 19)) (r2.2.2.2.2.2.1 (o + 20)) (r2.2.2.2.2.2.1 (o + 21)) (r2.2.2.2.2.2.1 (o + 22)) (r2.2.2.2.2.2.1 (o + 23)) (r2.2.2.2.2.2.1 (o + 37)) (r2.2.2.2.2.2.1 a22) (r2.2.2.2.2.2.2.2.1 (a25 + 1)) (Im11 1201) (Im11 1203) (fun j => r2.2.2.2.2.2.1 ((o + 25) + j)) rfl rfl rfl rfl rfl rfl rfl rfl rfl rfl rfl rfl rfl rfl rfl rfl rfl rfl rfl rfl rfl rfl rfl rfl rfl rfl rfl rfl rfl (fun _ _ => rfl) g33 r23 hr23) ⟨callB_of 4 hts (lw_meth q1264) rfl rfl rfl (hts _ q103) (hts _ q1261) (by decide +kernel) ⟨Nat.le_of_ble_eq_true rfl, Nat.le_of_ble_eq_true rfl⟩, hts _ q1263, hts _ qs18⟩ g10.1 rfl rfl hl.1 (Nat.le_of_ble_eq_true rfl) dX1_cost_70 ⟨c9.1, c9.2⟩ rfl (fun H locs hR hS => ?_)
    obtain ⟨Im34, eIm34, hf⟩ := lt_some hf
    obtain ⟨Xm35, eXm35, hf⟩ := lt_some hf
    obtain ⟨Am36, eAm36, hf⟩ := lt_some hf
    rw [← eIm34, ← eXm35, ← eAm36] at hR
    refine lv_istore_n (lv' := [(3, .int r23.1), (0, .ref o), (1, .int p1), (2, .int p2)]) hx hb dX1_cost_73 rfl hl (by decide) rfl (fun ls hl => ?_)
    refine lv_aload_n hx hb dX1_cost_74 rfl (lv_at hl 1 rfl) ?_
    refine lv_aload_n hx hb dX1_cost_75 rfl (lv_at hl 1 rfl) ?_
    obtain ⟨x37, ex37, hf⟩ := lt_some hf
    refine g_getx hx hb hts hown hG hR gFx_X1_135_0 k12 dX1_cost_76 ?_
    rw [← ex37]
    refine lv_aload_n hx hb dX1_cost_79 rfl (lv_at hl 1 rfl) ?_
    obtain ⟨v38, ev38, hf⟩ := lt_some hf
    refine n_geti (v := v38) hx hb hts hown hG hR gFi_X1_308_0 k12 ev38.symm dX1_cost_80 ?_
    refine lv_bipush (v := 60) hx hb dX1_cost_83 lb_60 ?_
    refine lv_iload_n hx hb dX1_cost_85 rfl (lv_at hl 2 rfl) ?_
    obtain ⟨v39, ev39, hf⟩ := lt_some hf
    refine n_imul hx hb ev39 dX1_cost_86 ?_
    obtain ⟨a40, ha40, hf⟩ := bind_s hf
    try rw [ha40]
    obtain ⟨n42, hn42, hf⟩ := bind_s hf
    have kn42 := alen_k hn42
    obtain ⟨a43, ha43, hf⟩ := bind_s hf
    obtain ⟨g44, hf⟩ := gdp_some hf
    obtain ⟨g45, hf⟩ := gdp_some hf
    obtain ⟨g46, hf⟩ := gdp_some hf
    obtain ⟨g47, hf⟩ := gdp_some hf
    obtain ⟨g48, hf⟩ := gdp_some hf
    obtain ⟨g49, hf⟩ := gdp_some hf
    obtain ⟨g50, hf⟩ := gdp_some hf
    obtain ⟨r41, hr41, hf⟩ := bind_s hf
    refine g0_cV (rm := (4, 86)) (As := [.ref a40, .int v38, .int v39]) (rest := []) ⟨hx, hb, hml, hown, hts⟩ hG hR hS (m1_runs l G r2.2.1 Im34 r2.2.2.2.1 Xm35 Am36 r2.2.2.2.2.2.2.1 r2.2.2.2.2.2.2.2.1 o a43 g44 g45 g46 g28 ha43 g47 g48 a40 n42 kn42 g49 v38 v39 (Im34 306 a43) (Im34 307 a43) (Im34 308 a43) (Im34 309 a43) (Im34 310 a43) (Im34 802 (o + 60)) (Im34 803 (o + 60)) (Im34 804 (o + 60)) (Im34 805 (o + 60)) (Im34 809 (o + 60)) (Xm35 801 (o + 60)) (Am36 (o + 61)) (Am36 (o + 62)) (Am36 (o + 63)) (Am36 (o + 64)) (Am36 a40) (r2.2.2.2.2.2.2.2.1 (a43 + 1)) (Im34 1202) rfl rfl rfl rfl rfl rfl rfl rfl rfl rfl rfl rfl rfl rfl rfl rfl rfl rfl g50 r41 hr41) ⟨callB_of 3 hts (lw_meth q1247) rfl rfl rfl (hts _ q103) (hts _ q1244) (by decide +kernel) ⟨Nat.le_of_ble_eq_true rfl, Nat.le_of_ble_eq_true rfl⟩, hts _ q1246, hts _ qs17⟩ g44.1 rfl rfl hl.1 (Nat.le_of_ble_eq_true rfl) dX1_cost_87 ⟨c9.1, c9.2⟩ rfl (fun H locs hR hS => ?_)
    obtain ⟨Im51, eIm51, hf⟩ := lt_some hf
    obtain ⟨Xm52, eXm52, hf⟩ := lt_some hf
    obtain ⟨Am53, eAm53, hf⟩ := lt_some hf
    rw [← eIm51, ← eXm52, ← eAm53] at hR
    refine lv_istore (lv' := [(4, .int r41.1), (3, .int r23.1), (0, .ref o), (1, .int p1), (2, .int p2)]) hx hb dX1_cost_90 hl (by decide) rfl (fun ls hl => ?_)
    refine lv_iload_n hx hb dX1_cost_92 rfl (lv_at hl 1 rfl) ?_
    refine lv_iload hx hb dX1_cost_93 (lv_at hl 0 rfl) ?_
    obtain ⟨v54, ev54, hf⟩ := lt_some hf
    refine n_isub hx hb ev54 dX1_cost_95 ?_
    refine lv_aload_n hx hb dX1_cost_96 rfl (lv_at hl 2 rfl) ?_
    refine lv_aload_n hx hb dX1_cost_97 rfl (lv_at hl 2 rfl) ?_
    obtain ⟨x55, ex55, hf⟩ := lt_some hf
    refine g_getx hx hb hts hown hG hR gFx_X1_135_0 k12 dX1_cost_98 ?_
    rw [← ex55]
    refine lv_aload_n hx hb dX1_cost_101 rfl (lv_at hl 2 rfl) ?_
    obtain ⟨v56, ev56, hf⟩ := lt_some hf
    refine n_geti (v := v56) hx hb hts hown hG hR gFi_X1_308_0 k12 ev56.symm dX1_cost_102 ?_
    refine lv_iload_n hx hb dX1_cost_105 rfl (lv_at hl 4 rfl) ?_
    refine lv_bipush (v := 60) hx hb dX1_cost_106 lb_60 ?_
    refine lv_iload_n hx hb dX1_cost_108 rfl (lv_at hl 3 rfl) ?_
    obtain ⟨v57, ev57, hf⟩ := lt_some hf
    refine n_imul hx hb ev57 dX1_cost_109 ?_
    obtain ⟨v58, ev58, hf⟩ := lt_some hf
    refine n_isub hx hb ev58 dX1_cost_110 ?_
    refine lv_aload_n hx hb dX1_cost_111 rfl (lv_at hl 2 rfl) ?_
    obtain ⟨x59, ex59, hf⟩ := lt_some hf
    refine g_getx hx hb hts hown hG hR gFx_X1_128_0 k12 dX1_cost_112 ?_
    rw [← ex59]
    obtain ⟨a60, ha60, hf⟩ := bind_s hf
    try rw [ha60]
    obtain ⟨k61, hf⟩ := gdp_some hf
    obtain ⟨v62, ev62, hf⟩ := lt_some hf
    refine n_geti (v := v62) hx hb hts hown hG hR gFi_X1_389_8 k61 ev62.symm dX1_cost_115 ?_
    obtain ⟨a63, ha63, hf⟩ := bind_s hf
    try rw [ha63]
    obtain ⟨n65, hn65, hf⟩ := bind_s hf
    have kn65 := alen_k hn65
    obtain ⟨a66, ha66, hf⟩ := bind_s hf
    obtain ⟨g67, hf⟩ := gdp_some hf
    obtain ⟨g68, hf⟩ := gdp_some hf
    obtain ⟨g69, hf⟩ := gdp_some hf
    obtain ⟨g70, hf⟩ := gdp_some hf
    obtain ⟨g71, hf⟩ := gdp_some hf
    obtain ⟨g72, hf⟩ := gdp_some hf
    obtain ⟨g73, hf⟩ := gdp_some hf
    obtain ⟨r64, hr64, hf⟩ := bind_s hf
    refine g0_cV (rm := (5, 108)) (As := [.ref a63, .int v56, .int v58, .int v62]) (rest := [.int v54]) ⟨hx, hb, hml, hown, hts⟩ hG hR hS (m1_rows l G r2.2.1 Im51 r2.2.2.2.1 Xm52 Am53 r2.2.2.2.2.2.2.1 r2.2.2.2.2.2.2.2.1 o a66 g67 g68 g69 g28 ha66 g70 g71 a63 n65 kn65 g72 g32 v56 v58 v62 (Im51 306 a66) (Im51 307 a66) (Im51 308 a66) (Im51 309 a66) (Im51 311 a66) (Im51 312 a66) (Im51 313 a66) (Im51 702 (o + 16)) (Im51 703 (o + 16)) (Im51 704 (o + 16)) (Im51 705 (o + 16)) (Im51 714 (o + 16)) (Im51 715 (o + 16)) (Im51 716 (o + 16)) (Im51 717 (o + 16)) (Im51 718 (o + 16)) (Xm52 701 (o + 16)) (Am53 (o + 17)) (Am53 (o + 18)) (Am53 (o + 19)) (Am53 (o + 20)) (Am53 (o + 21)) (Am53 (o + 22)) (Am53 (o + 23)) (Am53 (o + 37)) (Am53 a63) (r2.2.2.2.2.2.2.2.1 (a66 + 1)) (Im51 1201) (Im51 1203) (fun j => Am53 ((o + 25) + j)) rfl rfl rfl rfl rfl rfl rfl rfl rfl rfl rfl rfl rfl rfl rfl rfl rfl rfl rfl rfl rfl rfl rfl rfl rfl rfl rfl rfl rfl (fun _ _ => rfl) g73 r64 hr64) ⟨callB_of 4 hts (lw_meth q1264) rfl rfl rfl (hts _ q103) (hts _ q1261) (by decide +kernel) ⟨Nat.le_of_ble_eq_true rfl, Nat.le_of_ble_eq_true rfl⟩, hts _ q1263, hts _ qs18⟩ g67.1 rfl rfl hl.1 (Nat.le_of_ble_eq_true rfl) dX1_cost_118 ⟨c9.1, c9.2⟩ rfl (fun H locs hR hS => ?_)
    obtain ⟨Im74, eIm74, hf⟩ := lt_some hf
    obtain ⟨Xm75, eXm75, hf⟩ := lt_some hf
    obtain ⟨Am76, eAm76, hf⟩ := lt_some hf
    rw [← eIm74, ← eXm75, ← eAm76] at hR
    obtain ⟨v77, ev77, hf⟩ := lt_some hf
    refine n_isub hx hb ev77 dX1_cost_121 ?_
    obtain ⟨c78, hf⟩ := gdp_some hf
    refine W.widen c78.1 c78.2 ?_
    obtain rfl := some_i hf
    exact hend _ rfl _ _ _ _ dX1_cost_122 hR hS
  have hj42 : ∀ (j42_I : gI) (j42_J : gJ) (j42_X : gX) (j42_A : gI) (j42_B : gJ) (j42_Q : gX), w1_cost_j42 G.2.2 (aK G) o p1 p2 K n j42_I j42_J j42_X j42_A j42_B j42_Q = some out → ∀ (H : Heap) (locs : List Loc) (ls : Array Slot), RS G K j42_I j42_J j42_X j42_A j42_B j42_Q H → va_S (gA G) s.heap H locs → lv_has ls 5 [(0, .ref o), (1, .int p1), (2, .int p2)] → W p l e ({ frames := 9, cells := 1, slots := 6, locals := 140 } : Room) s m args below meth c H locs 0 0 Z (F0 m 42 ls []) := by
    intro j42_I j42_J j42_X j42_A j42_B j42_Q hf H locs ls hR hS hl
    unfold w1_cost_j42 at hf
    refine lv_iconst (v := 0) hx hb dX1_cost_42 li_0 ?_
    exact hj43 (0 : Int32) j42_I j42_J j42_X j42_A j42_B j42_Q hf _ _ _ hR hS (lv_sub hl [0, 1, 2] rfl)
  refine lv_if_eq (tgt := 42) hx hb dX1_cost_7 (by decide) (fun c79 => ?_) (fun c79 => ?_)
  · have hf := ite_t c79 hf
    exact hj42 I J X A B Q hf _ _ _ hR hS (lv_sub hl [0, 1, 2] rfl)
  · have hf := ite_f c79 hf
    refine lv_iload_n hx hb dX1_cost_10 rfl (lv_at hl 2 rfl) ?_
    refine lv_bipush (v := 60) hx hb dX1_cost_11 lb_60 ?_
    refine lv_iload_n hx hb dX1_cost_13 rfl (lv_at hl 1 rfl) ?_
    obtain ⟨v80, ev80, hf⟩ := lt_some hf
    refine n_imul hx hb ev80 dX1_cost_14 ?_
    refine lv_sipush (v := 3600) hx hb dX1_cost_15 ls_3600 ?_
    obtain ⟨r81, hr81, hf⟩ := bind_s hf
    refine g0_cS (rm := (0, 0)) (As := [.int p2, .int v80, .int (3600 : Int32)]) (rest := []) ⟨hx, hb, hml, hown, hts⟩ hG hR hS (m1_isIn l G K I J X A B Q p2 v80 (3600 : Int32) r81 hr81) ⟨callB_of 3 hts (lw_meth q862) rfl rfl rfl (hts _ q103) (hts _ q1121) (by decide +kernel) ⟨Nat.le_of_ble_eq_true rfl, Nat.le_of_ble_eq_true rfl⟩, hts _ q861⟩ rfl hl.1 (Nat.le_of_ble_eq_true rfl) dX1_cost_18 ⟨Nat.zero_le _, Nat.zero_le _⟩ rfl (fun H locs hR hS => ?_)
    refine lv_if_eq (tgt := 42) hx hb dX1_cost_21 (by decide) (fun c82 => ?_) (fun c82 => ?_)
    · have hf := ite_t c82 hf
      exact hj42 I J X A B Q hf _ _ _ hR hS (lv_sub hl [0, 1, 2] rfl)
    · have hf := ite_f c82 hf
      refine lv_aload_n hx hb dX1_cost_24 rfl (lv_at hl 0 rfl) ?_
      refine lv_iconst (v := 2) hx hb dX1_cost_25 li_2 ?_
      refine lv_bipush (v := 12) hx hb dX1_cost_26 lb_12 ?_
      refine lv_aload_n hx hb dX1_cost_28 rfl (lv_at hl 0 rfl) ?_
      obtain ⟨k83, hf⟩ := gdp_some hf
      obtain ⟨v84, ev84, hf⟩ := lt_some hf
      refine n_geti (v := v84) hx hb hts hown hG hR gFi_X1_214_0 k83 ev84.symm dX1_cost_29 ?_
      obtain ⟨a86, ha86, hf⟩ := bind_s hf
      obtain ⟨g87, hf⟩ := gdp_some hf
      obtain ⟨g88, hf⟩ := gdp_some hf
      obtain ⟨g89, hf⟩ := gdp_some hf
      obtain ⟨g90, hf⟩ := gdp_some hf
      obtain ⟨r85, hr85, hf⟩ := bind_s hf
      refine g0_cV (rm := (2, 43)) (As := [.int (2 : Int32), .int (12 : Int32), .int v84]) (rest := []) ⟨hx, hb, hml, hown, hts⟩ hG hR hS (m1_areAsked l G K I J X A B Q o a86 g87 g88 g89 ha86 g90 (2 : Int32) (12 : Int32) v84 (I 18 o) (I 303 a86) (A (o + 1)) (A (o + 70)) rfl rfl rfl rfl r85 hr85) ⟨callB_of 3 hts (lw_meth q1120) rfl rfl rfl (hts _ q103) (hts _ q1117) (by decide +kernel) ⟨Nat.le_of_ble_eq_true rfl, Nat.le_of_ble_eq_true rfl⟩, hts _ q1119, hts _ qs9⟩ g87.1 rfl rfl hl.1 (Nat.le_of_ble_eq_true rfl) dX1_cost_32 ⟨Nat.zero_le _, Nat.zero_le _⟩ rfl (fun H locs hR hS => ?_)
      obtain ⟨Im91, eIm91, hf⟩ := lt_some hf
      obtain ⟨Am92, eAm92, hf⟩ := lt_some hf
      rw [← eIm91, ← eAm92] at hR
      refine lv_if_eq (tgt := 42) hx hb dX1_cost_35 (by decide) (fun c93 => ?_) (fun c93 => ?_)
      · have hf := ite_t c93 hf
        exact hj42 Im91 J X Am92 B Q hf _ _ _ hR hS (lv_sub hl [0, 1, 2] rfl)
      · have hf := ite_f c93 hf
        refine lv_iconst (v := 1) hx hb dX1_cost_38 li_1 ?_
        refine lv_goto (tgt := 43) hx hb dX1_cost_39 (by decide) ?_
        exact hj43 (1 : Int32) Im91 J X Am92 B Q hf _ _ _ hR hS (lv_sub hl [0, 1, 2] rfl)
noncomputable def w19_of (zz : Nat) (adS : Nat → Nat) (o : Nat) (a1 : Nat) (p2 : Int32) (K : gK) (I : gI) (J : gJ) (X : gX) (A : gI) (B : gJ) (Q : gX) (n : Nat) : Option (Int32 × gK × gI × gJ × gX × gI × gJ × gX × Nat) :=
  gdp (K o = some (.inl 15)) <|
  lt (I 1500 o) fun v2 =>
  if v2 = 0 then
    some (p2, K, I, J, X, A, B, Q, n)
  else
  if v2 = 1 then
    gdp (K a1 = some (.inl 0)) <|
    lt (X 46 a1) fun x6 =>
    (x6).bind fun a7 =>
    (alen K a7 0).bind fun n8 =>
    gdp (inb p2 n8) <|
    lt (A a7 p2.toNatClampNeg) fun v10 =>
    some (v10, K, I, J, X, A, B, Q, n)
  else
  if v2 = 2 then
    gdp (K a1 = some (.inl 0)) <|
    lt (X 47 a1) fun x13 =>
    (x13).bind fun a14 =>
    (alen K a14 0).bind fun n15 =>
    gdp (inb p2 n15) <|
    lt (A a14 p2.toNatClampNeg) fun v17 =>
    some (v17, K, I, J, X, A, B, Q, n)
  else
  if v2 = 3 then
    gdp (K a1 = some (.inl 0)) <|
    lt (X 48 a1) fun x20 =>
    (x20).bind fun a21 =>
    (alen K a21 0).bind fun n22 =>
    gdp (inb p2 n22) <|
    lt (A a21 p2.toNatClampNeg) fun v24 =>
    some (v24, K, I, J, X, A, B, Q, n)
  else
  gdp (K a1 = some (.inl 0)) <|
  lt (X 49 a1) fun x26 =>
  (x26).bind fun a27 =>
  (alen K a27 0).bind fun n28 =>
  gdp (inb p2 n28) <|
  lt (A a27 p2.toNatClampNeg) fun v30 =>
  some (v30, K, I, J, X, A, B, Q, n)
set_option maxHeartbeats 4000000 in
theorem m19_of_w (l : Launch) (G : gG) (K : gK) (I : gI) (J : gJ) (X : gX) (A : gI) (B : gJ) (Q : gX) (n : Nat) (o : Nat) (a1 : Nat) (p2 : Int32) (out : Int32 × gK × gI × gJ × gX × gI × gJ × gX × Nat) (hf : w19_of G.2.2 (aK G) o a1 p2 K I J X A B Q n = some out) : GMetX l yX19_of cX19_of 3 (some .int) (0) (0) G [.ref o, .ref a1, .int p2] K I J X A B Q (.inr (some (.int out.1))) out.2.1 out.2.2.1 out.2.2.2.1 out.2.2.2.2.1 out.2.2.2.2.2.1 out.2.2.2.2.2.2.1 out.2.2.2.2.2.2.2.1 0 0 := by
  refine GMetX.of (y := yX19_of) rfl (Nat.le_of_ble_eq_true rfl) (la := [(0, .ref o), (1, .ref a1), (2, .int p2)]) rfl ?_
  intro p e s m below meth c ls hx hb hr hml hlocks hts hown hname ht hG hR hW hl
  have hown : s.vm.findClass RX19 = some m.cls := hown
  have hS : va_S (gA G) s.heap s.heap [] := va_S.rf
  have hend : ∀ (pc : Nat) (H : Heap) (locs : List Loc) (ls : Array Slot), decode cX19_of pc = .ok (.ireturn, 1) → RS G out.2.1 out.2.2.1 out.2.2.2.1 out.2.2.2.2.1 out.2.2.2.2.2.1 out.2.2.2.2.2.2.1 out.2.2.2.2.2.2.2.1 H → va_S (gA G) s.heap H locs → W p l e ({ frames := 0, cells := 0, slots := 0, locals := 0 } : Room) s m ([.ref o, .ref a1, .int p2] : List Value).toArray below meth c H locs 0 0 (vx_MQ below (xQ G (.inr (some (.int out.1))) out.2.1 out.2.2.1 out.2.2.2.1 out.2.2.2.2.1 out.2.2.2.2.2.1 out.2.2.2.2.2.2.1 out.2.2.2.2.2.2.2.1) (xX G (.inr (some (.int out.1))) out.2.1 out.2.2.1 out.2.2.2.1 out.2.2.2.2.1 out.2.2.2.2.2.1 out.2.2.2.2.2.2.1 out.2.2.2.2.2.2.2.1) ([.ref o, .ref a1, .int p2] : List Value).toArray s 0 0 (gA G)) (F0 m pc ls [.int out.1]) := fun pc H locs ls hd hR hS => x_nret hx hb hr rfl hlocks hG hR hS rfl hd
  generalize vx_MQ below (xQ G (.inr (some (.int out.1))) out.2.1 out.2.2.1 out.2.2.2.1 out.2.2.2.2.1 out.2.2.2.2.2.1 out.2.2.2.2.2.2.1 out.2.2.2.2.2.2.2.1) (xX G (.inr (some (.int out.1))) out.2.1 out.2.2.1 out.2.2.2.1 out.2.2.2.2.1 out.2.2.2.2.2.1 out.2.2.2.2.2.2.1 out.2.2.2.2.2.2.2.1) ([.ref o, .ref a1, .int p2] : List Value).toArray s 0 0 (gA G) = Z at hend ⊢
  generalize ([.ref o, .ref a1, .int p2] : List Value).toArray = args at hts hend ⊢
  unfold w19_of at hf
  refine lv_aload_n hx hb dX19_of_0 rfl (lv_at hl 0 rfl) ?_
  obtain ⟨k1, hf⟩ := gdp_some hf
  obtain ⟨v2, ev2, hf⟩ := lt_some hf
  refine n_geti (v := v2) hx hb hts hown hG hR gFi_X19_7_15 k1 ev2.symm dX19_of_1 ?_
  by_cases c3 : v2 = 0
  · have hf := ite_t c3 hf
    refine lv_tableIn (tgt := 36) hx hb dX19_of_4 (by rw [c3]; decide) (by rw [c3]; decide) (off := 32) (by rw [c3]; rfl) (by decide) ?_
    refine lv_iload_n hx hb dX19_of_36 rfl (lv_at hl 2 rfl) ?_
    obtain rfl := some_i hf
    exact hend _ _ _ _ dX19_of_37 hR hS
  have hf := ite_f c3 hf
  by_cases c4 : v2 = 1
  · have hf := ite_t c4 hf
    refine lv_tableIn (tgt := 38) hx hb dX19_of_4 (by rw [c4]; decide) (by rw [c4]; decide) (off := 34) (by rw [c4]; rfl) (by decide) ?_
    refine lv_aload_n hx hb dX19_of_38 rfl (lv_at hl 1 rfl) ?_
    obtain ⟨k5, hf⟩ := gdp_some hf
    obtain ⟨x6, ex6, hf⟩ := lt_some hf
    refine g_getx hx hb hts hown hG hR gFx_X19_19_0 k5 dX19_of_39 ?_
    rw [← ex6]
    refine lv_iload_n hx hb dX19_of_42 rfl (lv_at hl 2 rfl) ?_
    obtain ⟨a7, ha7, hf⟩ := bind_s hf
    try rw [ha7]
    obtain ⟨n8, hn8, hf⟩ := bind_s hf
    have kn8 := alen_k hn8
    obtain ⟨c9, hf⟩ := gdp_some hf
    obtain ⟨v10, ev10, hf⟩ := lt_some hf
    refine g_iald hx hb hG hR kn8 c9 dX19_of_43 ?_
    rw [← ev10]
    obtain rfl := some_i hf
    exact hend _ _ _ _ dX19_of_44 hR hS
  have hf := ite_f c4 hf
  by_cases c11 : v2 = 2
  · have hf := ite_t c11 hf
    refine lv_tableIn (tgt := 45) hx hb dX19_of_4 (by rw [c11]; decide) (by rw [c11]; decide) (off := 41) (by rw [c11]; rfl) (by decide) ?_
    refine lv_aload_n hx hb dX19_of_45 rfl (lv_at hl 1 rfl) ?_
    obtain ⟨k12, hf⟩ := gdp_some hf
    obtain ⟨x13, ex13, hf⟩ := lt_some hf
    refine g_getx hx hb hts hown hG hR gFx_X19_25_0 k12 dX19_of_46 ?_
    rw [← ex13]
    refine lv_iload_n hx hb dX19_of_49 rfl (lv_at hl 2 rfl) ?_
    obtain ⟨a14, ha14, hf⟩ := bind_s hf
    try rw [ha14]
    obtain ⟨n15, hn15, hf⟩ := bind_s hf
    have kn15 := alen_k hn15
    obtain ⟨c16, hf⟩ := gdp_some hf
    obtain ⟨v17, ev17, hf⟩ := lt_some hf
    refine g_iald hx hb hG hR kn15 c16 dX19_of_50 ?_
    rw [← ev17]
    obtain rfl := some_i hf
    exact hend _ _ _ _ dX19_of_51 hR hS
  have hf := ite_f c11 hf
  by_cases c18 : v2 = 3
  · have hf := ite_t c18 hf
    refine lv_tableIn (tgt := 52) hx hb dX19_of_4 (by rw [c18]; decide) (by rw [c18]; decide) (off := 48) (by rw [c18]; rfl) (by decide) ?_
    refine lv_aload_n hx hb dX19_of_52 rfl (lv_at hl 1 rfl) ?_
    obtain ⟨k19, hf⟩ := gdp_some hf
    obtain ⟨x20, ex20, hf⟩ := lt_some hf
    refine g_getx hx hb hts hown hG hR gFx_X19_28_0 k19 dX19_of_53 ?_
    rw [← ex20]
    refine lv_iload_n hx hb dX19_of_56 rfl (lv_at hl 2 rfl) ?_
    obtain ⟨a21, ha21, hf⟩ := bind_s hf
    try rw [ha21]
    obtain ⟨n22, hn22, hf⟩ := bind_s hf
    have kn22 := alen_k hn22
    obtain ⟨c23, hf⟩ := gdp_some hf
    obtain ⟨v24, ev24, hf⟩ := lt_some hf
    refine g_iald hx hb hG hR kn22 c23 dX19_of_57 ?_
    rw [← ev24]
    obtain rfl := some_i hf
    exact hend _ _ _ _ dX19_of_58 hR hS
  have hf := ite_f c18 hf
  have hto := tb_out_0_3 v2 c3 c4 c11 c18
  refine lv_tableOut (tgt := 59) hx hb dX19_of_4 hto (by decide) ?_
  refine lv_aload_n hx hb dX19_of_59 rfl (lv_at hl 1 rfl) ?_
  obtain ⟨k25, hf⟩ := gdp_some hf
  obtain ⟨x26, ex26, hf⟩ := lt_some hf
  refine g_getx hx hb hts hown hG hR gFx_X19_31_0 k25 dX19_of_60 ?_
  rw [← ex26]
  refine lv_iload_n hx hb dX19_of_63 rfl (lv_at hl 2 rfl) ?_
  obtain ⟨a27, ha27, hf⟩ := bind_s hf
  try rw [ha27]
  obtain ⟨n28, hn28, hf⟩ := bind_s hf
  have kn28 := alen_k hn28
  obtain ⟨c29, hf⟩ := gdp_some hf
  obtain ⟨v30, ev30, hf⟩ := lt_some hf
  refine g_iald hx hb hG hR kn28 c29 dX19_of_64 ?_
  rw [← ev30]
  obtain rfl := some_i hf
  exact hend _ _ _ _ dX19_of_65 hR hS
noncomputable def wb18_is (q_X18_is : Nat → (Nat → Nat) → Nat → Nat → Int32 → gK → gI → gJ → gX → gI → gJ → gX → Nat → Option (Int32 × gK × gI × gJ × gX × gI × gJ × gX × Nat)) (q_X19_is : Nat → (Nat → Nat) → Nat → Nat → Int32 → gK → gI → gJ → gX → gI → gJ → gX → Nat → Option (Int32 × gK × gI × gJ × gX × gI × gJ × gX × Nat)) (q_X20_is : Nat → (Nat → Nat) → Nat → Nat → Int32 → gK → gI → gJ → gX → gI → gJ → gX → Nat → Option (Int32 × gK × gI × gJ × gX × gI × gJ × gX × Nat)) (q_X21_is : Nat → (Nat → Nat) → Nat → Nat → Int32 → gK → gI → gJ → gX → gI → gJ → gX → Nat → Option (Int32 × gK × gI × gJ × gX × gI × gJ × gX × Nat)) (q_X22_is : Nat → (Nat → Nat) → Nat → Nat → Int32 → gK → gI → gJ → gX → gI → gJ → gX → Nat → Option (Int32 × gK × gI × gJ × gX × gI × gJ × gX × Nat)) (zz : Nat) (adS : Nat → Nat) (o : Nat) (a1 : Nat) (p2 : Int32) (K : gK) (I : gI) (J : gJ) (X : gX) (A : gI) (B : gJ) (Q : gX) (n : Nat) : Option (Int32 × gK × gI × gJ × gX × gI × gJ × gX × Nat) :=
  gdp (K o = some (.inl 14)) <|
  lt (X 1400 o) fun x2 =>
  (x2).bind fun a3 =>
  if K a3 = some (.inl 14) then
    (q_X18_is zz adS a3 a1 p2 K I J X A B Q n).bind fun r5 =>
    if r5.1 = 0 then
      some ((1 : Int32), r5.2.1, r5.2.2.1, r5.2.2.2.1, r5.2.2.2.2.1, r5.2.2.2.2.2.1, r5.2.2.2.2.2.2.1, r5.2.2.2.2.2.2.2.1, r5.2.2.2.2.2.2.2.2)
    else
      some ((0 : Int32), r5.2.1, r5.2.2.1, r5.2.2.2.1, r5.2.2.2.2.1, r5.2.2.2.2.2.1, r5.2.2.2.2.2.2.1, r5.2.2.2.2.2.2.2.1, r5.2.2.2.2.2.2.2.2)
  else
  if K a3 = some (.inl 15) then
    (q_X19_is zz adS a3 a1 p2 K I J X A B Q n).bind fun r8 =>
    if r8.1 = 0 then
      some ((1 : Int32), r8.2.1, r8.2.2.1, r8.2.2.2.1, r8.2.2.2.2.1, r8.2.2.2.2.2.1, r8.2.2.2.2.2.2.1, r8.2.2.2.2.2.2.2.1, r8.2.2.2.2.2.2.2.2)
    else
      some ((0 : Int32), r8.2.1, r8.2.2.1, r8.2.2.2.1, r8.2.2.2.2.1, r8.2.2.2.2.2.1, r8.2.2.2.2.2.2.1, r8.2.2.2.2.2.2.2.1, r8.2.2.2.2.2.2.2.2)
  else
  if K a3 = some (.inl 16) then
    (q_X20_is zz adS a3 a1 p2 K I J X A B Q n).bind fun r11 =>
    if r11.1 = 0 then
      some ((1 : Int32), r11.2.1, r11.2.2.1, r11.2.2.2.1, r11.2.2.2.2.1, r11.2.2.2.2.2.1, r11.2.2.2.2.2.2.1, r11.2.2.2.2.2.2.2.1, r11.2.2.2.2.2.2.2.2)
    else
      some ((0 : Int32), r11.2.1, r11.2.2.1, r11.2.2.2.1, r11.2.2.2.2.1, r11.2.2.2.2.2.1, r11.2.2.2.2.2.2.1, r11.2.2.2.2.2.2.2.1, r11.2.2.2.2.2.2.2.2)
  else
  if K a3 = some (.inl 17) then
    (q_X21_is zz adS a3 a1 p2 K I J X A B Q n).bind fun r14 =>
    if r14.1 = 0 then
      some ((1 : Int32), r14.2.1, r14.2.2.1, r14.2.2.2.1, r14.2.2.2.2.1, r14.2.2.2.2.2.1, r14.2.2.2.2.2.2.1, r14.2.2.2.2.2.2.2.1, r14.2.2.2.2.2.2.2.2)
    else
      some ((0 : Int32), r14.2.1, r14.2.2.1, r14.2.2.2.1, r14.2.2.2.2.1, r14.2.2.2.2.2.1, r14.2.2.2.2.2.2.1, r14.2.2.2.2.2.2.2.1, r14.2.2.2.2.2.2.2.2)
  else
  gdp (K a3 = some (.inl 18)) <|
  (q_X22_is zz adS a3 a1 p2 K I J X A B Q n).bind fun r17 =>
  if r17.1 = 0 then
    some ((1 : Int32), r17.2.1, r17.2.2.1, r17.2.2.2.1, r17.2.2.2.2.1, r17.2.2.2.2.2.1, r17.2.2.2.2.2.2.1, r17.2.2.2.2.2.2.2.1, r17.2.2.2.2.2.2.2.2)
  else
    some ((0 : Int32), r17.2.1, r17.2.2.1, r17.2.2.2.1, r17.2.2.2.2.1, r17.2.2.2.2.2.1, r17.2.2.2.2.2.2.1, r17.2.2.2.2.2.2.2.1, r17.2.2.2.2.2.2.2.2)
noncomputable def wb19_is (q_X18_is : Nat → (Nat → Nat) → Nat → Nat → Int32 → gK → gI → gJ → gX → gI → gJ → gX → Nat → Option (Int32 × gK × gI × gJ × gX × gI × gJ × gX × Nat)) (q_X19_is : Nat → (Nat → Nat) → Nat → Nat → Int32 → gK → gI → gJ → gX → gI → gJ → gX → Nat → Option (Int32 × gK × gI × gJ × gX × gI × gJ × gX × Nat)) (q_X20_is : Nat → (Nat → Nat) → Nat → Nat → Int32 → gK → gI → gJ → gX → gI → gJ → gX → Nat → Option (Int32 × gK × gI × gJ × gX × gI × gJ × gX × Nat)) (q_X21_is : Nat → (Nat → Nat) → Nat → Nat → Int32 → gK → gI → gJ → gX → gI → gJ → gX → Nat → Option (Int32 × gK × gI × gJ × gX × gI × gJ × gX × Nat)) (q_X22_is : Nat → (Nat → Nat) → Nat → Nat → Int32 → gK → gI → gJ → gX → gI → gJ → gX → Nat → Option (Int32 × gK × gI × gJ × gX × gI × gJ × gX × Nat)) (zz : Nat) (adS : Nat → Nat) (o : Nat) (a1 : Nat) (p2 : Int32) (K : gK) (I : gI) (J : gJ) (X : gX) (A : gI) (B : gJ) (Q : gX) (n : Nat) : Option (Int32 × gK × gI × gJ × gX × gI × gJ × gX × Nat) :=
  gdp (K o = some (.inl 15)) <|
  (w19_of zz adS o a1 p2 K I J X A B Q n).bind fun r2 =>
  gdp (r2.2.1 o = some (.inl 15)) <|
  lt (r2.2.2.1 1501 o) fun v4 =>
  if v4 = (60 : Int32) then
    lt (r2.2.2.1 1502 o) fun v11 =>
    if v11 ≤ r2.1 then
      some ((0 : Int32), r2.2.1, r2.2.2.1, r2.2.2.2.1, r2.2.2.2.2.1, r2.2.2.2.2.2.1, r2.2.2.2.2.2.2.1, r2.2.2.2.2.2.2.2.1, r2.2.2.2.2.2.2.2.2)
    else
      some ((1 : Int32), r2.2.1, r2.2.2.1, r2.2.2.2.1, r2.2.2.2.2.1, r2.2.2.2.2.2.1, r2.2.2.2.2.2.2.1, r2.2.2.2.2.2.2.2.1, r2.2.2.2.2.2.2.2.2)
  else
    if v4 = (61 : Int32) then
      lt (r2.2.2.1 1502 o) fun v9 =>
      if r2.1 = v9 then
        some ((1 : Int32), r2.2.1, r2.2.2.1, r2.2.2.2.1, r2.2.2.2.2.1, r2.2.2.2.2.2.1, r2.2.2.2.2.2.2.1, r2.2.2.2.2.2.2.2.1, r2.2.2.2.2.2.2.2.2)
      else
        some ((0 : Int32), r2.2.1, r2.2.2.1, r2.2.2.2.1, r2.2.2.2.2.1, r2.2.2.2.2.2.1, r2.2.2.2.2.2.2.1, r2.2.2.2.2.2.2.2.1, r2.2.2.2.2.2.2.2.2)
    else
      lt (r2.2.2.1 1502 o) fun v7 =>
      if r2.1 ≤ v7 then
        some ((0 : Int32), r2.2.1, r2.2.2.1, r2.2.2.2.1, r2.2.2.2.2.1, r2.2.2.2.2.2.1, r2.2.2.2.2.2.2.1, r2.2.2.2.2.2.2.2.1, r2.2.2.2.2.2.2.2.2)
      else
        some ((1 : Int32), r2.2.1, r2.2.2.1, r2.2.2.2.1, r2.2.2.2.2.1, r2.2.2.2.2.2.1, r2.2.2.2.2.2.2.1, r2.2.2.2.2.2.2.2.1, r2.2.2.2.2.2.2.2.2)
noncomputable def wb20_is (q_X18_is : Nat → (Nat → Nat) → Nat → Nat → Int32 → gK → gI → gJ → gX → gI → gJ → gX → Nat → Option (Int32 × gK × gI × gJ × gX × gI × gJ × gX × Nat)) (q_X19_is : Nat → (Nat → Nat) → Nat → Nat → Int32 → gK → gI → gJ → gX → gI → gJ → gX → Nat → Option (Int32 × gK × gI × gJ × gX × gI × gJ × gX × Nat)) (q_X20_is : Nat → (Nat → Nat) → Nat → Nat → Int32 → gK → gI → gJ → gX → gI → gJ → gX → Nat → Option (Int32 × gK × gI × gJ × gX × gI × gJ × gX × Nat)) (q_X21_is : Nat → (Nat → Nat) → Nat → Nat → Int32 → gK → gI → gJ → gX → gI → gJ → gX → Nat → Option (Int32 × gK × gI × gJ × gX × gI × gJ × gX × Nat)) (q_X22_is : Nat → (Nat → Nat) → Nat → Nat → Int32 → gK → gI → gJ → gX → gI → gJ → gX → Nat → Option (Int32 × gK × gI × gJ × gX × gI × gJ × gX × Nat)) (zz : Nat) (adS : Nat → Nat) (o : Nat) (a1 : Nat) (p2 : Int32) (K : gK) (I : gI) (J : gJ) (X : gX) (A : gI) (B : gJ) (Q : gX) (n : Nat) : Option (Int32 × gK × gI × gJ × gX × gI × gJ × gX × Nat) :=
  gdp (K a1 = some (.inl 0)) <|
  lt (X 48 a1) fun x2 =>
  (x2).bind fun a3 =>
  (alen K a3 0).bind fun n4 =>
  gdp (inb p2 n4) <|
  lt (A a3 p2.toNatClampNeg) fun v6 =>
  if v6 = 0 then
    some ((1 : Int32), K, I, J, X, A, B, Q, n)
  else
    some ((0 : Int32), K, I, J, X, A, B, Q, n)
noncomputable def w21_is_j28 (j28_K : gK) (j28_I : gI) (j28_J : gJ) (j28_X : gX) (j28_A : gI) (j28_B : gJ) (j28_Q : gX) (j28_n : Nat) (j28_u : Nat) (j28_v : Nat) : Option (Int32 × gK × gI × gJ × gX × gI × gJ × gX × Nat) :=
  gdp (j28_u ≤ 0 ∧ j28_v ≤ 0) <|
  some ((0 : Int32), j28_K, j28_I, j28_J, j28_X, j28_A, j28_B, j28_Q, j28_n)

noncomputable def wb21_is (q_X18_is : Nat → (Nat → Nat) → Nat → Nat → Int32 → gK → gI → gJ → gX → gI → gJ → gX → Nat → Option (Int32 × gK × gI × gJ × gX × gI × gJ × gX × Nat)) (q_X19_is : Nat → (Nat → Nat) → Nat → Nat → Int32 → gK → gI → gJ → gX → gI → gJ → gX → Nat → Option (Int32 × gK × gI × gJ × gX × gI × gJ × gX × Nat)) (q_X20_is : Nat → (Nat → Nat) → Nat → Nat → Int32 → gK → gI → gJ → gX → gI → gJ → gX → Nat → Option (Int32 × gK × gI × gJ × gX × gI × gJ × gX × Nat)) (q_X21_is : Nat → (Nat → Nat) → Nat → Nat → Int32 → gK → gI → gJ → gX → gI → gJ → gX → Nat → Option (Int32 × gK × gI × gJ × gX × gI × gJ × gX × Nat)) (q_X22_is : Nat → (Nat → Nat) → Nat → Nat → Int32 → gK → gI → gJ → gX → gI → gJ → gX → Nat → Option (Int32 × gK × gI × gJ × gX × gI × gJ × gX × Nat)) (zz : Nat) (adS : Nat → Nat) (o : Nat) (a1 : Nat) (p2 : Int32) (K : gK) (I : gI) (J : gJ) (X : gX) (A : gI) (B : gJ) (Q : gX) (n : Nat) : Option (Int32 × gK × gI × gJ × gX × gI × gJ × gX × Nat) :=
  gdp (K o = some (.inl 17)) <|
  lt (X 1700 o) fun x2 =>
  (x2).bind fun a3 =>
  if K a3 = some (.inl 14) then
    (q_X18_is zz adS a3 a1 p2 K I J X A B Q n).bind fun r5 =>
    if r5.1 = 0 then
      w21_is_j28 r5.2.1 r5.2.2.1 r5.2.2.2.1 r5.2.2.2.2.1 r5.2.2.2.2.2.1 r5.2.2.2.2.2.2.1 r5.2.2.2.2.2.2.2.1 r5.2.2.2.2.2.2.2.2 0 0
    else
      gdp (r5.2.1 o = some (.inl 17)) <|
      lt (r5.2.2.2.2.1 1701 o) fun x9 =>
      (x9).bind fun a10 =>
      if r5.2.1 a10 = some (.inl 14) then
        (q_X18_is zz adS a10 a1 p2 r5.2.1 r5.2.2.1 r5.2.2.2.1 r5.2.2.2.2.1 r5.2.2.2.2.2.1 r5.2.2.2.2.2.2.1 r5.2.2.2.2.2.2.2.1 r5.2.2.2.2.2.2.2.2).bind fun r12 =>
        if r12.1 = 0 then
          w21_is_j28 r12.2.1 r12.2.2.1 r12.2.2.2.1 r12.2.2.2.2.1 r12.2.2.2.2.2.1 r12.2.2.2.2.2.2.1 r12.2.2.2.2.2.2.2.1 r12.2.2.2.2.2.2.2.2 0 0
        else
          some ((1 : Int32), r12.2.1, r12.2.2.1, r12.2.2.2.1, r12.2.2.2.2.1, r12.2.2.2.2.2.1, r12.2.2.2.2.2.2.1, r12.2.2.2.2.2.2.2.1, r12.2.2.2.2.2.2.2.2)
      else
      if r5.2.1 a10 = some (.inl 15) then
        (q_X19_is zz adS a10 a1 p2 r5.2.1 r5.2.2.1 r5.2.2.2.1 r5.2.2.2.2.1 r5.2.2.2.2.2.1 r5.2.2.2.2.2.2.1 r5.2.2.2.2.2.2.2.1 r5.2.2.2.2.2.2.2.2).bind fun r15 =>
        if r15.1 = 0 then
          w21_is_j28 r15.2.1 r15.2.2.1 r15.2.2.2.1 r15.2.2.2.2.1 r15.2.2.2.2.2.1 r15.2.2.2.2.2.2.1 r15.2.2.2.2.2.2.2.1 r15.2.2.2.2.2.2.2.2 0 0
        else
          some ((1 : Int32), r15.2.1, r15.2.2.1, r15.2.2.2.1, r15.2.2.2.2.1, r15.2.2.2.2.2.1, r15.2.2.2.2.2.2.1, r15.2.2.2.2.2.2.2.1, r15.2.2.2.2.2.2.2.2)
      else
      if r5.2.1 a10 = some (.inl 16) then
        (q_X20_is zz adS a10 a1 p2 r5.2.1 r5.2.2.1 r5.2.2.2.1 r5.2.2.2.2.1 r5.2.2.2.2.2.1 r5.2.2.2.2.2.2.1 r5.2.2.2.2.2.2.2.1 r5.2.2.2.2.2.2.2.2).bind fun r18 =>
        if r18.1 = 0 then
          w21_is_j28 r18.2.1 r18.2.2.1 r18.2.2.2.1 r18.2.2.2.2.1 r18.2.2.2.2.2.1 r18.2.2.2.2.2.2.1 r18.2.2.2.2.2.2.2.1 r18.2.2.2.2.2.2.2.2 0 0
        else
          some ((1 : Int32), r18.2.1, r18.2.2.1, r18.2.2.2.1, r18.2.2.2.2.1, r18.2.2.2.2.2.1, r18.2.2.2.2.2.2.1, r18.2.2.2.2.2.2.2.1, r18.2.2.2.2.2.2.2.2)
      else
      if r5.2.1 a10 = some (.inl 17) then
        (q_X21_is zz adS a10 a1 p2 r5.2.1 r5.2.2.1 r5.2.2.2.1 r5.2.2.2.2.1 r5.2.2.2.2.2.1 r5.2.2.2.2.2.2.1 r5.2.2.2.2.2.2.2.1 r5.2.2.2.2.2.2.2.2).bind fun r21 =>
        if r21.1 = 0 then
          w21_is_j28 r21.2.1 r21.2.2.1 r21.2.2.2.1 r21.2.2.2.2.1 r21.2.2.2.2.2.1 r21.2.2.2.2.2.2.1 r21.2.2.2.2.2.2.2.1 r21.2.2.2.2.2.2.2.2 0 0
        else
          some ((1 : Int32), r21.2.1, r21.2.2.1, r21.2.2.2.1, r21.2.2.2.2.1, r21.2.2.2.2.2.1, r21.2.2.2.2.2.2.1, r21.2.2.2.2.2.2.2.1, r21.2.2.2.2.2.2.2.2)
      else
      gdp (r5.2.1 a10 = some (.inl 18)) <|
      (q_X22_is zz adS a10 a1 p2 r5.2.1 r5.2.2.1 r5.2.2.2.1 r5.2.2.2.2.1 r5.2.2.2.2.2.1 r5.2.2.2.2.2.2.1 r5.2.2.2.2.2.2.2.1 r5.2.2.2.2.2.2.2.2).bind fun r24 =>
      if r24.1 = 0 then
        w21_is_j28 r24.2.1 r24.2.2.1 r24.2.2.2.1 r24.2.2.2.2.1 r24.2.2.2.2.2.1 r24.2.2.2.2.2.2.1 r24.2.2.2.2.2.2.2.1 r24.2.2.2.2.2.2.2.2 0 0
      else
        some ((1 : Int32), r24.2.1, r24.2.2.1, r24.2.2.2.1, r24.2.2.2.2.1, r24.2.2.2.2.2.1, r24.2.2.2.2.2.2.1, r24.2.2.2.2.2.2.2.1, r24.2.2.2.2.2.2.2.2)
  else
  if K a3 = some (.inl 15) then
    (q_X19_is zz adS a3 a1 p2 K I J X A B Q n).bind fun r27 =>
    if r27.1 = 0 then
      w21_is_j28 r27.2.1 r27.2.2.1 r27.2.2.2.1 r27.2.2.2.2.1 r27.2.2.2.2.2.1 r27.2.2.2.2.2.2.1 r27.2.2.2.2.2.2.2.1 r27.2.2.2.2.2.2.2.2 0 0
    else
      gdp (r27.2.1 o = some (.inl 17)) <|
      lt (r27.2.2.2.2.1 1701 o) fun x31 =>
      (x31).bind fun a32 =>
      if r27.2.1 a32 = some (.inl 14) then
        (q_X18_is zz adS a32 a1 p2 r27.2.1 r27.2.2.1 r27.2.2.2.1 r27.2.2.2.2.1 r27.2.2.2.2.2.1 r27.2.2.2.2.2.2.1 r27.2.2.2.2.2.2.2.1 r27.2.2.2.2.2.2.2.2).bind fun r34 =>
        if r34.1 = 0 then
          w21_is_j28 r34.2.1 r34.2.2.1 r34.2.2.2.1 r34.2.2.2.2.1 r34.2.2.2.2.2.1 r34.2.2.2.2.2.2.1 r34.2.2.2.2.2.2.2.1 r34.2.2.2.2.2.2.2.2 0 0
        else
          some ((1 : Int32), r34.2.1, r34.2.2.1, r34.2.2.2.1, r34.2.2.2.2.1, r34.2.2.2.2.2.1, r34.2.2.2.2.2.2.1, r34.2.2.2.2.2.2.2.1, r34.2.2.2.2.2.2.2.2)
      else
      if r27.2.1 a32 = some (.inl 15) then
        (q_X19_is zz adS a32 a1 p2 r27.2.1 r27.2.2.1 r27.2.2.2.1 r27.2.2.2.2.1 r27.2.2.2.2.2.1 r27.2.2.2.2.2.2.1 r27.2.2.2.2.2.2.2.1 r27.2.2.2.2.2.2.2.2).bind fun r37 =>
        if r37.1 = 0 then
          w21_is_j28 r37.2.1 r37.2.2.1 r37.2.2.2.1 r37.2.2.2.2.1 r37.2.2.2.2.2.1 r37.2.2.2.2.2.2.1 r37.2.2.2.2.2.2.2.1 r37.2.2.2.2.2.2.2.2 0 0
        else
          some ((1 : Int32), r37.2.1, r37.2.2.1, r37.2.2.2.1, r37.2.2.2.2.1, r37.2.2.2.2.2.1, r37.2.2.2.2.2.2.1, r37.2.2.2.2.2.2.2.1, r37.2.2.2.2.2.2.2.2)
      else
      if r27.2.1 a32 = some (.inl 16) then
        (q_X20_is zz adS a32 a1 p2 r27.2.1 r27.2.2.1 r27.2.2.2.1 r27.2.2.2.2.1 r27.2.2.2.2.2.1 r27.2.2.2.2.2.2.1 r27.2.2.2.2.2.2.2.1 r27.2.2.2.2.2.2.2.2).bind fun r40 =>
        if r40.1 = 0 then
          w21_is_j28 r40.2.1 r40.2.2.1 r40.2.2.2.1 r40.2.2.2.2.1 r40.2.2.2.2.2.1 r40.2.2.2.2.2.2.1 r40.2.2.2.2.2.2.2.1 r40.2.2.2.2.2.2.2.2 0 0
        else
          some ((1 : Int32), r40.2.1, r40.2.2.1, r40.2.2.2.1, r40.2.2.2.2.1, r40.2.2.2.2.2.1, r40.2.2.2.2.2.2.1, r40.2.2.2.2.2.2.2.1, r40.2.2.2.2.2.2.2.2)
      else
      if r27.2.1 a32 = some (.inl 17) then
        (q_X21_is zz adS a32 a1 p2 r27.2.1 r27.2.2.1 r27.2.2.2.1 r27.2.2.2.2.1 r27.2.2.2.2.2.1 r27.2.2.2.2.2.2.1 r27.2.2.2.2.2.2.2.1 r27.2.2.2.2.2.2.2.2).bind fun r43 =>
        if r43.1 = 0 then
          w21_is_j28 r43.2.1 r43.2.2.1 r43.2.2.2.1 r43.2.2.2.2.1 r43.2.2.2.2.2.1 r43.2.2.2.2.2.2.1 r43.2.2.2.2.2.2.2.1 r43.2.2.2.2.2.2.2.2 0 0
        else
          some ((1 : Int32), r43.2.1, r43.2.2.1, r43.2.2.2.1, r43.2.2.2.2.1, r43.2.2.2.2.2.1, r43.2.2.2.2.2.2.1, r43.2.2.2.2.2.2.2.1, r43.2.2.2.2.2.2.2.2)
      else
      gdp (r27.2.1 a32 = some (.inl 18)) <|
      (q_X22_is zz adS a32 a1 p2 r27.2.1 r27.2.2.1 r27.2.2.2.1 r27.2.2.2.2.1 r27.2.2.2.2.2.1 r27.2.2.2.2.2.2.1 r27.2.2.2.2.2.2.2.1 r27.2.2.2.2.2.2.2.2).bind fun r46 =>
      if r46.1 = 0 then
        w21_is_j28 r46.2.1 r46.2.2.1 r46.2.2.2.1 r46.2.2.2.2.1 r46.2.2.2.2.2.1 r46.2.2.2.2.2.2.1 r46.2.2.2.2.2.2.2.1 r46.2.2.2.2.2.2.2.2 0 0
      else
        some ((1 : Int32), r46.2.1, r46.2.2.1, r46.2.2.2.1, r46.2.2.2.2.1, r46.2.2.2.2.2.1, r46.2.2.2.2.2.2.1, r46.2.2.2.2.2.2.2.1, r46.2.2.2.2.2.2.2.2)
  else
  if K a3 = some (.inl 16) then
    (q_X20_is zz adS a3 a1 p2 K I J X A B Q n).bind fun r49 =>
    if r49.1 = 0 then
      w21_is_j28 r49.2.1 r49.2.2.1 r49.2.2.2.1 r49.2.2.2.2.1 r49.2.2.2.2.2.1 r49.2.2.2.2.2.2.1 r49.2.2.2.2.2.2.2.1 r49.2.2.2.2.2.2.2.2 0 0
    else
      gdp (r49.2.1 o = some (.inl 17)) <|
      lt (r49.2.2.2.2.1 1701 o) fun x53 =>
      (x53).bind fun a54 =>
      if r49.2.1 a54 = some (.inl 14) then
        (q_X18_is zz adS a54 a1 p2 r49.2.1 r49.2.2.1 r49.2.2.2.1 r49.2.2.2.2.1 r49.2.2.2.2.2.1 r49.2.2.2.2.2.2.1 r49.2.2.2.2.2.2.2.1 r49.2.2.2.2.2.2.2.2).bind fun r56 =>
        if r56.1 = 0 then
          w21_is_j28 r56.2.1 r56.2.2.1 r56.2.2.2.1 r56.2.2.2.2.1 r56.2.2.2.2.2.1 r56.2.2.2.2.2.2.1 r56.2.2.2.2.2.2.2.1 r56.2.2.2.2.2.2.2.2 0 0
        else
          some ((1 : Int32), r56.2.1, r56.2.2.1, r56.2.2.2.1, r56.2.2.2.2.1, r56.2.2.2.2.2.1, r56.2.2.2.2.2.2.1, r56.2.2.2.2.2.2.2.1, r56.2.2.2.2.2.2.2.2)
      else
      if r49.2.1 a54 = some (.inl 15) then
        (q_X19_is zz adS a54 a1 p2 r49.2.1 r49.2.2.1 r49.2.2.2.1 r49.2.2.2.2.1 r49.2.2.2.2.2.1 r49.2.2.2.2.2.2.1 r49.2.2.2.2.2.2.2.1 r49.2.2.2.2.2.2.2.2).bind fun r59 =>
        if r59.1 = 0 then
          w21_is_j28 r59.2.1 r59.2.2.1 r59.2.2.2.1 r59.2.2.2.2.1 r59.2.2.2.2.2.1 r59.2.2.2.2.2.2.1 r59.2.2.2.2.2.2.2.1 r59.2.2.2.2.2.2.2.2 0 0
        else
          some ((1 : Int32), r59.2.1, r59.2.2.1, r59.2.2.2.1, r59.2.2.2.2.1, r59.2.2.2.2.2.1, r59.2.2.2.2.2.2.1, r59.2.2.2.2.2.2.2.1, r59.2.2.2.2.2.2.2.2)
      else
      if r49.2.1 a54 = some (.inl 16) then
        (q_X20_is zz adS a54 a1 p2 r49.2.1 r49.2.2.1 r49.2.2.2.1 r49.2.2.2.2.1 r49.2.2.2.2.2.1 r49.2.2.2.2.2.2.1 r49.2.2.2.2.2.2.2.1 r49.2.2.2.2.2.2.2.2).bind fun r62 =>
        if r62.1 = 0 then
          w21_is_j28 r62.2.1 r62.2.2.1 r62.2.2.2.1 r62.2.2.2.2.1 r62.2.2.2.2.2.1 r62.2.2.2.2.2.2.1 r62.2.2.2.2.2.2.2.1 r62.2.2.2.2.2.2.2.2 0 0
        else
          some ((1 : Int32), r62.2.1, r62.2.2.1, r62.2.2.2.1, r62.2.2.2.2.1, r62.2.2.2.2.2.1, r62.2.2.2.2.2.2.1, r62.2.2.2.2.2.2.2.1, r62.2.2.2.2.2.2.2.2)
      else
      if r49.2.1 a54 = some (.inl 17) then
        (q_X21_is zz adS a54 a1 p2 r49.2.1 r49.2.2.1 r49.2.2.2.1 r49.2.2.2.2.1 r49.2.2.2.2.2.1 r49.2.2.2.2.2.2.1 r49.2.2.2.2.2.2.2.1 r49.2.2.2.2.2.2.2.2).bind fun r65 =>
        if r65.1 = 0 then
          w21_is_j28 r65.2.1 r65.2.2.1 r65.2.2.2.1 r65.2.2.2.2.1 r65.2.2.2.2.2.1 r65.2.2.2.2.2.2.1 r65.2.2.2.2.2.2.2.1 r65.2.2.2.2.2.2.2.2 0 0
        else
          some ((1 : Int32), r65.2.1, r65.2.2.1, r65.2.2.2.1, r65.2.2.2.2.1, r65.2.2.2.2.2.1, r65.2.2.2.2.2.2.1, r65.2.2.2.2.2.2.2.1, r65.2.2.2.2.2.2.2.2)
      else
      gdp (r49.2.1 a54 = some (.inl 18)) <|
      (q_X22_is zz adS a54 a1 p2 r49.2.1 r49.2.2.1 r49.2.2.2.1 r49.2.2.2.2.1 r49.2.2.2.2.2.1 r49.2.2.2.2.2.2.1 r49.2.2.2.2.2.2.2.1 r49.2.2.2.2.2.2.2.2).bind fun r68 =>
      if r68.1 = 0 then
        w21_is_j28 r68.2.1 r68.2.2.1 r68.2.2.2.1 r68.2.2.2.2.1 r68.2.2.2.2.2.1 r68.2.2.2.2.2.2.1 r68.2.2.2.2.2.2.2.1 r68.2.2.2.2.2.2.2.2 0 0
      else
        some ((1 : Int32), r68.2.1, r68.2.2.1, r68.2.2.2.1, r68.2.2.2.2.1, r68.2.2.2.2.2.1, r68.2.2.2.2.2.2.1, r68.2.2.2.2.2.2.2.1, r68.2.2.2.2.2.2.2.2)
  else
  if K a3 = some (.inl 17) then
    (q_X21_is zz adS a3 a1 p2 K I J X A B Q n).bind fun r71 =>
    if r71.1 = 0 then
      w21_is_j28 r71.2.1 r71.2.2.1 r71.2.2.2.1 r71.2.2.2.2.1 r71.2.2.2.2.2.1 r71.2.2.2.2.2.2.1 r71.2.2.2.2.2.2.2.1 r71.2.2.2.2.2.2.2.2 0 0
    else
      gdp (r71.2.1 o = some (.inl 17)) <|
      lt (r71.2.2.2.2.1 1701 o) fun x75 =>
      (x75).bind fun a76 =>
      if r71.2.1 a76 = some (.inl 14) then
        (q_X18_is zz adS a76 a1 p2 r71.2.1 r71.2.2.1 r71.2.2.2.1 r71.2.2.2.2.1 r71.2.2.2.2.2.1 r71.2.2.2.2.2.2.1 r71.2.2.2.2.2.2.2.1 r71.2.2.2.2.2.2.2.2).bind fun r78 =>
        if r78.1 = 0 then
          w21_is_j28 r78.2.1 r78.2.2.1 r78.2.2.2.1 r78.2.2.2.2.1 r78.2.2.2.2.2.1 r78.2.2.2.2.2.2.1 r78.2.2.2.2.2.2.2.1 r78.2.2.2.2.2.2.2.2 0 0
        else
          some ((1 : Int32), r78.2.1, r78.2.2.1, r78.2.2.2.1, r78.2.2.2.2.1, r78.2.2.2.2.2.1, r78.2.2.2.2.2.2.1, r78.2.2.2.2.2.2.2.1, r78.2.2.2.2.2.2.2.2)
      else
      if r71.2.1 a76 = some (.inl 15) then
        (q_X19_is zz adS a76 a1 p2 r71.2.1 r71.2.2.1 r71.2.2.2.1 r71.2.2.2.2.1 r71.2.2.2.2.2.1 r71.2.2.2.2.2.2.1 r71.2.2.2.2.2.2.2.1 r71.2.2.2.2.2.2.2.2).bind fun r81 =>
        if r81.1 = 0 then
          w21_is_j28 r81.2.1 r81.2.2.1 r81.2.2.2.1 r81.2.2.2.2.1 r81.2.2.2.2.2.1 r81.2.2.2.2.2.2.1 r81.2.2.2.2.2.2.2.1 r81.2.2.2.2.2.2.2.2 0 0
        else
          some ((1 : Int32), r81.2.1, r81.2.2.1, r81.2.2.2.1, r81.2.2.2.2.1, r81.2.2.2.2.2.1, r81.2.2.2.2.2.2.1, r81.2.2.2.2.2.2.2.1, r81.2.2.2.2.2.2.2.2)
      else
      if r71.2.1 a76 = some (.inl 16) then
        (q_X20_is zz adS a76 a1 p2 r71.2.1 r71.2.2.1 r71.2.2.2.1 r71.2.2.2.2.1 r71.2.2.2.2.2.1 r71.2.2.2.2.2.2.1 r71.2.2.2.2.2.2.2.1 r71.2.2.2.2.2.2.2.2).bind fun r84 =>
        if r84.1 = 0 then
          w21_is_j28 r84.2.1 r84.2.2.1 r84.2.2.2.1 r84.2.2.2.2.1 r84.2.2.2.2.2.1 r84.2.2.2.2.2.2.1 r84.2.2.2.2.2.2.2.1 r84.2.2.2.2.2.2.2.2 0 0
        else
          some ((1 : Int32), r84.2.1, r84.2.2.1, r84.2.2.2.1, r84.2.2.2.2.1, r84.2.2.2.2.2.1, r84.2.2.2.2.2.2.1, r84.2.2.2.2.2.2.2.1, r84.2.2.2.2.2.2.2.2)
      else
      if r71.2.1 a76 = some (.inl 17) then
        (q_X21_is zz adS a76 a1 p2 r71.2.1 r71.2.2.1 r71.2.2.2.1 r71.2.2.2.2.1 r71.2.2.2.2.2.1 r71.2.2.2.2.2.2.1 r71.2.2.2.2.2.2.2.1 r71.2.2.2.2.2.2.2.2).bind fun r87 =>
        if r87.1 = 0 then
          w21_is_j28 r87.2.1 r87.2.2.1 r87.2.2.2.1 r87.2.2.2.2.1 r87.2.2.2.2.2.1 r87.2.2.2.2.2.2.1 r87.2.2.2.2.2.2.2.1 r87.2.2.2.2.2.2.2.2 0 0
        else
          some ((1 : Int32), r87.2.1, r87.2.2.1, r87.2.2.2.1, r87.2.2.2.2.1, r87.2.2.2.2.2.1, r87.2.2.2.2.2.2.1, r87.2.2.2.2.2.2.2.1, r87.2.2.2.2.2.2.2.2)
      else
      gdp (r71.2.1 a76 = some (.inl 18)) <|
      (q_X22_is zz adS a76 a1 p2 r71.2.1 r71.2.2.1 r71.2.2.2.1 r71.2.2.2.2.1 r71.2.2.2.2.2.1 r71.2.2.2.2.2.2.1 r71.2.2.2.2.2.2.2.1 r71.2.2.2.2.2.2.2.2).bind fun r90 =>
      if r90.1 = 0 then
        w21_is_j28 r90.2.1 r90.2.2.1 r90.2.2.2.1 r90.2.2.2.2.1 r90.2.2.2.2.2.1 r90.2.2.2.2.2.2.1 r90.2.2.2.2.2.2.2.1 r90.2.2.2.2.2.2.2.2 0 0
      else
        some ((1 : Int32), r90.2.1, r90.2.2.1, r90.2.2.2.1, r90.2.2.2.2.1, r90.2.2.2.2.2.1, r90.2.2.2.2.2.2.1, r90.2.2.2.2.2.2.2.1, r90.2.2.2.2.2.2.2.2)
  else
  gdp (K a3 = some (.inl 18)) <|
  (q_X22_is zz adS a3 a1 p2 K I J X A B Q n).bind fun r93 =>
  if r93.1 = 0 then
    w21_is_j28 r93.2.1 r93.2.2.1 r93.2.2.2.1 r93.2.2.2.2.1 r93.2.2.2.2.2.1 r93.2.2.2.2.2.2.1 r93.2.2.2.2.2.2.2.1 r93.2.2.2.2.2.2.2.2 0 0
  else
    gdp (r93.2.1 o = some (.inl 17)) <|
    lt (r93.2.2.2.2.1 1701 o) fun x97 =>
    (x97).bind fun a98 =>
    if r93.2.1 a98 = some (.inl 14) then
      (q_X18_is zz adS a98 a1 p2 r93.2.1 r93.2.2.1 r93.2.2.2.1 r93.2.2.2.2.1 r93.2.2.2.2.2.1 r93.2.2.2.2.2.2.1 r93.2.2.2.2.2.2.2.1 r93.2.2.2.2.2.2.2.2).bind fun r100 =>
      if r100.1 = 0 then
        w21_is_j28 r100.2.1 r100.2.2.1 r100.2.2.2.1 r100.2.2.2.2.1 r100.2.2.2.2.2.1 r100.2.2.2.2.2.2.1 r100.2.2.2.2.2.2.2.1 r100.2.2.2.2.2.2.2.2 0 0
      else
        some ((1 : Int32), r100.2.1, r100.2.2.1, r100.2.2.2.1, r100.2.2.2.2.1, r100.2.2.2.2.2.1, r100.2.2.2.2.2.2.1, r100.2.2.2.2.2.2.2.1, r100.2.2.2.2.2.2.2.2)
    else
    if r93.2.1 a98 = some (.inl 15) then
      (q_X19_is zz adS a98 a1 p2 r93.2.1 r93.2.2.1 r93.2.2.2.1 r93.2.2.2.2.1 r93.2.2.2.2.2.1 r93.2.2.2.2.2.2.1 r93.2.2.2.2.2.2.2.1 r93.2.2.2.2.2.2.2.2).bind fun r103 =>
      if r103.1 = 0 then
        w21_is_j28 r103.2.1 r103.2.2.1 r103.2.2.2.1 r103.2.2.2.2.1 r103.2.2.2.2.2.1 r103.2.2.2.2.2.2.1 r103.2.2.2.2.2.2.2.1 r103.2.2.2.2.2.2.2.2 0 0
      else
        some ((1 : Int32), r103.2.1, r103.2.2.1, r103.2.2.2.1, r103.2.2.2.2.1, r103.2.2.2.2.2.1, r103.2.2.2.2.2.2.1, r103.2.2.2.2.2.2.2.1, r103.2.2.2.2.2.2.2.2)
    else
    if r93.2.1 a98 = some (.inl 16) then
      (q_X20_is zz adS a98 a1 p2 r93.2.1 r93.2.2.1 r93.2.2.2.1 r93.2.2.2.2.1 r93.2.2.2.2.2.1 r93.2.2.2.2.2.2.1 r93.2.2.2.2.2.2.2.1 r93.2.2.2.2.2.2.2.2).bind fun r106 =>
      if r106.1 = 0 then
        w21_is_j28 r106.2.1 r106.2.2.1 r106.2.2.2.1 r106.2.2.2.2.1 r106.2.2.2.2.2.1 r106.2.2.2.2.2.2.1 r106.2.2.2.2.2.2.2.1 r106.2.2.2.2.2.2.2.2 0 0
      else
        some ((1 : Int32), r106.2.1, r106.2.2.1, r106.2.2.2.1, r106.2.2.2.2.1, r106.2.2.2.2.2.1, r106.2.2.2.2.2.2.1, r106.2.2.2.2.2.2.2.1, r106.2.2.2.2.2.2.2.2)
    else
    if r93.2.1 a98 = some (.inl 17) then
      (q_X21_is zz adS a98 a1 p2 r93.2.1 r93.2.2.1 r93.2.2.2.1 r93.2.2.2.2.1 r93.2.2.2.2.2.1 r93.2.2.2.2.2.2.1 r93.2.2.2.2.2.2.2.1 r93.2.2.2.2.2.2.2.2).bind fun r109 =>
      if r109.1 = 0 then
        w21_is_j28 r109.2.1 r109.2.2.1 r109.2.2.2.1 r109.2.2.2.2.1 r109.2.2.2.2.2.1 r109.2.2.2.2.2.2.1 r109.2.2.2.2.2.2.2.1 r109.2.2.2.2.2.2.2.2 0 0
      else
        some ((1 : Int32), r109.2.1, r109.2.2.1, r109.2.2.2.1, r109.2.2.2.2.1, r109.2.2.2.2.2.1, r109.2.2.2.2.2.2.1, r109.2.2.2.2.2.2.2.1, r109.2.2.2.2.2.2.2.2)
    else
    gdp (r93.2.1 a98 = some (.inl 18)) <|
    (q_X22_is zz adS a98 a1 p2 r93.2.1 r93.2.2.1 r93.2.2.2.1 r93.2.2.2.2.1 r93.2.2.2.2.2.1 r93.2.2.2.2.2.2.1 r93.2.2.2.2.2.2.2.1 r93.2.2.2.2.2.2.2.2).bind fun r112 =>
    if r112.1 = 0 then
      w21_is_j28 r112.2.1 r112.2.2.1 r112.2.2.2.1 r112.2.2.2.2.1 r112.2.2.2.2.2.1 r112.2.2.2.2.2.2.1 r112.2.2.2.2.2.2.2.1 r112.2.2.2.2.2.2.2.2 0 0
    else
      some ((1 : Int32), r112.2.1, r112.2.2.1, r112.2.2.2.1, r112.2.2.2.2.1, r112.2.2.2.2.2.1, r112.2.2.2.2.2.2.1, r112.2.2.2.2.2.2.2.1, r112.2.2.2.2.2.2.2.2)
noncomputable def w22_is_j24 (j24_K : gK) (j24_I : gI) (j24_J : gJ) (j24_X : gX) (j24_A : gI) (j24_B : gJ) (j24_Q : gX) (j24_n : Nat) (j24_u : Nat) (j24_v : Nat) : Option (Int32 × gK × gI × gJ × gX × gI × gJ × gX × Nat) :=
  gdp (j24_u ≤ 0 ∧ j24_v ≤ 0) <|
  some ((1 : Int32), j24_K, j24_I, j24_J, j24_X, j24_A, j24_B, j24_Q, j24_n)

noncomputable def wb22_is (q_X18_is : Nat → (Nat → Nat) → Nat → Nat → Int32 → gK → gI → gJ → gX → gI → gJ → gX → Nat → Option (Int32 × gK × gI × gJ × gX × gI × gJ × gX × Nat)) (q_X19_is : Nat → (Nat → Nat) → Nat → Nat → Int32 → gK → gI → gJ → gX → gI → gJ → gX → Nat → Option (Int32 × gK × gI × gJ × gX × gI × gJ × gX × Nat)) (q_X20_is : Nat → (Nat → Nat) → Nat → Nat → Int32 → gK → gI → gJ → gX → gI → gJ → gX → Nat → Option (Int32 × gK × gI × gJ × gX × gI × gJ × gX × Nat)) (q_X21_is : Nat → (Nat → Nat) → Nat → Nat → Int32 → gK → gI → gJ → gX → gI → gJ → gX → Nat → Option (Int32 × gK × gI × gJ × gX × gI × gJ × gX × Nat)) (q_X22_is : Nat → (Nat → Nat) → Nat → Nat → Int32 → gK → gI → gJ → gX → gI → gJ → gX → Nat → Option (Int32 × gK × gI × gJ × gX × gI × gJ × gX × Nat)) (zz : Nat) (adS : Nat → Nat) (o : Nat) (a1 : Nat) (p2 : Int32) (K : gK) (I : gI) (J : gJ) (X : gX) (A : gI) (B : gJ) (Q : gX) (n : Nat) : Option (Int32 × gK × gI × gJ × gX × gI × gJ × gX × Nat) :=
  gdp (K o = some (.inl 18)) <|
  lt (X 1800 o) fun x2 =>
  (x2).bind fun a3 =>
  if K a3 = some (.inl 14) then
    (q_X18_is zz adS a3 a1 p2 K I J X A B Q n).bind fun r5 =>
    if r5.1 = 0 then
      gdp (r5.2.1 o = some (.inl 18)) <|
      lt (r5.2.2.2.2.1 1801 o) fun x9 =>
      (x9).bind fun a10 =>
      if r5.2.1 a10 = some (.inl 14) then
        (q_X18_is zz adS a10 a1 p2 r5.2.1 r5.2.2.1 r5.2.2.2.1 r5.2.2.2.2.1 r5.2.2.2.2.2.1 r5.2.2.2.2.2.2.1 r5.2.2.2.2.2.2.2.1 r5.2.2.2.2.2.2.2.2).bind fun r12 =>
        if r12.1 = 0 then
          some ((0 : Int32), r12.2.1, r12.2.2.1, r12.2.2.2.1, r12.2.2.2.2.1, r12.2.2.2.2.2.1, r12.2.2.2.2.2.2.1, r12.2.2.2.2.2.2.2.1, r12.2.2.2.2.2.2.2.2)
        else
          w22_is_j24 r12.2.1 r12.2.2.1 r12.2.2.2.1 r12.2.2.2.2.1 r12.2.2.2.2.2.1 r12.2.2.2.2.2.2.1 r12.2.2.2.2.2.2.2.1 r12.2.2.2.2.2.2.2.2 0 0
      else
      if r5.2.1 a10 = some (.inl 15) then
        (q_X19_is zz adS a10 a1 p2 r5.2.1 r5.2.2.1 r5.2.2.2.1 r5.2.2.2.2.1 r5.2.2.2.2.2.1 r5.2.2.2.2.2.2.1 r5.2.2.2.2.2.2.2.1 r5.2.2.2.2.2.2.2.2).bind fun r15 =>
        if r15.1 = 0 then
          some ((0 : Int32), r15.2.1, r15.2.2.1, r15.2.2.2.1, r15.2.2.2.2.1, r15.2.2.2.2.2.1, r15.2.2.2.2.2.2.1, r15.2.2.2.2.2.2.2.1, r15.2.2.2.2.2.2.2.2)
        else
          w22_is_j24 r15.2.1 r15.2.2.1 r15.2.2.2.1 r15.2.2.2.2.1 r15.2.2.2.2.2.1 r15.2.2.2.2.2.2.1 r15.2.2.2.2.2.2.2.1 r15.2.2.2.2.2.2.2.2 0 0
      else
      if r5.2.1 a10 = some (.inl 16) then
        (q_X20_is zz adS a10 a1 p2 r5.2.1 r5.2.2.1 r5.2.2.2.1 r5.2.2.2.2.1 r5.2.2.2.2.2.1 r5.2.2.2.2.2.2.1 r5.2.2.2.2.2.2.2.1 r5.2.2.2.2.2.2.2.2).bind fun r18 =>
        if r18.1 = 0 then
          some ((0 : Int32), r18.2.1, r18.2.2.1, r18.2.2.2.1, r18.2.2.2.2.1, r18.2.2.2.2.2.1, r18.2.2.2.2.2.2.1, r18.2.2.2.2.2.2.2.1, r18.2.2.2.2.2.2.2.2)
        else
          w22_is_j24 r18.2.1 r18.2.2.1 r18.2.2.2.1 r18.2.2.2.2.1 r18.2.2.2.2.2.1 r18.2.2.2.2.2.2.1 r18.2.2.2.2.2.2.2.1 r18.2.2.2.2.2.2.2.2 0 0
      else
      if r5.2.1 a10 = some (.inl 17) then
        (q_X21_is zz adS a10 a1 p2 r5.2.1 r5.2.2.1 r5.2.2.2.1 r5.2.2.2.2.1 r5.2.2.2.2.2.1 r5.2.2.2.2.2.2.1 r5.2.2.2.2.2.2.2.1 r5.2.2.2.2.2.2.2.2).bind fun r21 =>
        if r21.1 = 0 then
          some ((0 : Int32), r21.2.1, r21.2.2.1, r21.2.2.2.1, r21.2.2.2.2.1, r21.2.2.2.2.2.1, r21.2.2.2.2.2.2.1, r21.2.2.2.2.2.2.2.1, r21.2.2.2.2.2.2.2.2)
        else
          w22_is_j24 r21.2.1 r21.2.2.1 r21.2.2.2.1 r21.2.2.2.2.1 r21.2.2.2.2.2.1 r21.2.2.2.2.2.2.1 r21.2.2.2.2.2.2.2.1 r21.2.2.2.2.2.2.2.2 0 0
      else
      gdp (r5.2.1 a10 = some (.inl 18)) <|
      (q_X22_is zz adS a10 a1 p2 r5.2.1 r5.2.2.1 r5.2.2.2.1 r5.2.2.2.2.1 r5.2.2.2.2.2.1 r5.2.2.2.2.2.2.1 r5.2.2.2.2.2.2.2.1 r5.2.2.2.2.2.2.2.2).bind fun r24 =>
      if r24.1 = 0 then
        some ((0 : Int32), r24.2.1, r24.2.2.1, r24.2.2.2.1, r24.2.2.2.2.1, r24.2.2.2.2.2.1, r24.2.2.2.2.2.2.1, r24.2.2.2.2.2.2.2.1, r24.2.2.2.2.2.2.2.2)
      else
        w22_is_j24 r24.2.1 r24.2.2.1 r24.2.2.2.1 r24.2.2.2.2.1 r24.2.2.2.2.2.1 r24.2.2.2.2.2.2.1 r24.2.2.2.2.2.2.2.1 r24.2.2.2.2.2.2.2.2 0 0
    else
      w22_is_j24 r5.2.1 r5.2.2.1 r5.2.2.2.1 r5.2.2.2.2.1 r5.2.2.2.2.2.1 r5.2.2.2.2.2.2.1 r5.2.2.2.2.2.2.2.1 r5.2.2.2.2.2.2.2.2 0 0
  else
  if K a3 = some (.inl 15) then
    (q_X19_is zz adS a3 a1 p2 K I J X A B Q n).bind fun r27 =>
    if r27.1 = 0 then
      gdp (r27.2.1 o = some (.inl 18)) <|
      lt (r27.2.2.2.2.1 1801 o) fun x31 =>
      (x31).bind fun a32 =>
      if r27.2.1 a32 = some (.inl 14) then
        (q_X18_is zz adS a32 a1 p2 r27.2.1 r27.2.2.1 r27.2.2.2.1 r27.2.2.2.2.1 r27.2.2.2.2.2.1 r27.2.2.2.2.2.2.1 r27.2.2.2.2.2.2.2.1 r27.2.2.2.2.2.2.2.2).bind fun r34 =>
        if r34.1 = 0 then
          some ((0 : Int32), r34.2.1, r34.2.2.1, r34.2.2.2.1, r34.2.2.2.2.1, r34.2.2.2.2.2.1, r34.2.2.2.2.2.2.1, r34.2.2.2.2.2.2.2.1, r34.2.2.2.2.2.2.2.2)
        else
          w22_is_j24 r34.2.1 r34.2.2.1 r34.2.2.2.1 r34.2.2.2.2.1 r34.2.2.2.2.2.1 r34.2.2.2.2.2.2.1 r34.2.2.2.2.2.2.2.1 r34.2.2.2.2.2.2.2.2 0 0
      else
      if r27.2.1 a32 = some (.inl 15) then
        (q_X19_is zz adS a32 a1 p2 r27.2.1 r27.2.2.1 r27.2.2.2.1 r27.2.2.2.2.1 r27.2.2.2.2.2.1 r27.2.2.2.2.2.2.1 r27.2.2.2.2.2.2.2.1 r27.2.2.2.2.2.2.2.2).bind fun r37 =>
        if r37.1 = 0 then
          some ((0 : Int32), r37.2.1, r37.2.2.1, r37.2.2.2.1, r37.2.2.2.2.1, r37.2.2.2.2.2.1, r37.2.2.2.2.2.2.1, r37.2.2.2.2.2.2.2.1, r37.2.2.2.2.2.2.2.2)
        else
          w22_is_j24 r37.2.1 r37.2.2.1 r37.2.2.2.1 r37.2.2.2.2.1 r37.2.2.2.2.2.1 r37.2.2.2.2.2.2.1 r37.2.2.2.2.2.2.2.1 r37.2.2.2.2.2.2.2.2 0 0
      else
      if r27.2.1 a32 = some (.inl 16) then
        (q_X20_is zz adS a32 a1 p2 r27.2.1 r27.2.2.1 r27.2.2.2.1 r27.2.2.2.2.1 r27.2.2.2.2.2.1 r27.2.2.2.2.2.2.1 r27.2.2.2.2.2.2.2.1 r27.2.2.2.2.2.2.2.2).bind fun r40 =>
        if r40.1 = 0 then
          some ((0 : Int32), r40.2.1, r40.2.2.1, r40.2.2.2.1, r40.2.2.2.2.1, r40.2.2.2.2.2.1, r40.2.2.2.2.2.2.1, r40.2.2.2.2.2.2.2.1, r40.2.2.2.2.2.2.2.2)
        else
          w22_is_j24 r40.2.1 r40.2.2.1 r40.2.2.2.1 r40.2.2.2.2.1 r40.2.2.2.2.2.1 r40.2.2.2.2.2.2.1 r40.2.2.2.2.2.2.2.1 r40.2.2.2.2.2.2.2.2 0 0
      else
      if r27.2.1 a32 = some (.inl 17) then
        (q_X21_is zz adS a32 a1 p2 r27.2.1 r27.2.2.1 r27.2.2.2.1 r27.2.2.2.2.1 r27.2.2.2.2.2.1 r27.2.2.2.2.2.2.1 r27.2.2.2.2.2.2.2.1 r27.2.2.2.2.2.2.2.2).bind fun r43 =>
        if r43.1 = 0 then
          some ((0 : Int32), r43.2.1, r43.2.2.1, r43.2.2.2.1, r43.2.2.2.2.1, r43.2.2.2.2.2.1, r43.2.2.2.2.2.2.1, r43.2.2.2.2.2.2.2.1, r43.2.2.2.2.2.2.2.2)
        else
          w22_is_j24 r43.2.1 r43.2.2.1 r43.2.2.2.1 r43.2.2.2.2.1 r43.2.2.2.2.2.1 r43.2.2.2.2.2.2.1 r43.2.2.2.2.2.2.2.1 r43.2.2.2.2.2.2.2.2 0 0
      else
      gdp (r27.2.1 a32 = some (.inl 18)) <|
      (q_X22_is zz adS a32 a1 p2 r27.2.1 r27.2.2.1 r27.2.2.2.1 r27.2.2.2.2.1 r27.2.2.2.2.2.1 r27.2.2.2.2.2.2.1 r27.2.2.2.2.2.2.2.1 r27.2.2.2.2.2.2.2.2).bind fun r46 =>
      if r46.1 = 0 then
        some ((0 : Int32), r46.2.1, r46.2.2.1, r46.2.2.2.1, r46.2.2.2.2.1, r46.2.2.2.2.2.1, r46.2.2.2.2.2.2.1, r46.2.2.2.2.2.2.2.1, r46.2.2.2.2.2.2.2.2)
      else
        w22_is_j24 r46.2.1 r46.2.2.1 r46.2.2.2.1 r46.2.2.2.2.1 r46.2.2.2.2.2.1 r46.2.2.2.2.2.2.1 r46.2.2.2.2.2.2.2.1 r46.2.2.2.2.2.2.2.2 0 0
    else
      w22_is_j24 r27.2.1 r27.2.2.1 r27.2.2.2.1 r27.2.2.2.2.1 r27.2.2.2.2.2.1 r27.2.2.2.2.2.2.1 r27.2.2.2.2.2.2.2.1 r27.2.2.2.2.2.2.2.2 0 0
  else
  if K a3 = some (.inl 16) then
    (q_X20_is zz adS a3 a1 p2 K I J X A B Q n).bind fun r49 =>
    if r49.1 = 0 then
      gdp (r49.2.1 o = some (.inl 18)) <|
      lt (r49.2.2.2.2.1 1801 o) fun x53 =>
      (x53).bind fun a54 =>
      if r49.2.1 a54 = some (.inl 14) then
        (q_X18_is zz adS a54 a1 p2 r49.2.1 r49.2.2.1 r49.2.2.2.1 r49.2.2.2.2.1 r49.2.2.2.2.2.1 r49.2.2.2.2.2.2.1 r49.2.2.2.2.2.2.2.1 r49.2.2.2.2.2.2.2.2).bind fun r56 =>
        if r56.1 = 0 then
          some ((0 : Int32), r56.2.1, r56.2.2.1, r56.2.2.2.1, r56.2.2.2.2.1, r56.2.2.2.2.2.1, r56.2.2.2.2.2.2.1, r56.2.2.2.2.2.2.2.1, r56.2.2.2.2.2.2.2.2)
        else
          w22_is_j24 r56.2.1 r56.2.2.1 r56.2.2.2.1 r56.2.2.2.2.1 r56.2.2.2.2.2.1 r56.2.2.2.2.2.2.1 r56.2.2.2.2.2.2.2.1 r56.2.2.2.2.2.2.2.2 0 0
      else
      if r49.2.1 a54 = some (.inl 15) then
        (q_X19_is zz adS a54 a1 p2 r49.2.1 r49.2.2.1 r49.2.2.2.1 r49.2.2.2.2.1 r49.2.2.2.2.2.1 r49.2.2.2.2.2.2.1 r49.2.2.2.2.2.2.2.1 r49.2.2.2.2.2.2.2.2).bind fun r59 =>
        if r59.1 = 0 then
          some ((0 : Int32), r59.2.1, r59.2.2.1, r59.2.2.2.1, r59.2.2.2.2.1, r59.2.2.2.2.2.1, r59.2.2.2.2.2.2.1, r59.2.2.2.2.2.2.2.1, r59.2.2.2.2.2.2.2.2)
        else
          w22_is_j24 r59.2.1 r59.2.2.1 r59.2.2.2.1 r59.2.2.2.2.1 r59.2.2.2.2.2.1 r59.2.2.2.2.2.2.1 r59.2.2.2.2.2.2.2.1 r59.2.2.2.2.2.2.2.2 0 0
      else
      if r49.2.1 a54 = some (.inl 16) then
        (q_X20_is zz adS a54 a1 p2 r49.2.1 r49.2.2.1 r49.2.2.2.1 r49.2.2.2.2.1 r49.2.2.2.2.2.1 r49.2.2.2.2.2.2.1 r49.2.2.2.2.2.2.2.1 r49.2.2.2.2.2.2.2.2).bind fun r62 =>
        if r62.1 = 0 then
          some ((0 : Int32), r62.2.1, r62.2.2.1, r62.2.2.2.1, r62.2.2.2.2.1, r62.2.2.2.2.2.1, r62.2.2.2.2.2.2.1, r62.2.2.2.2.2.2.2.1, r62.2.2.2.2.2.2.2.2)
        else
          w22_is_j24 r62.2.1 r62.2.2.1 r62.2.2.2.1 r62.2.2.2.2.1 r62.2.2.2.2.2.1 r62.2.2.2.2.2.2.1 r62.2.2.2.2.2.2.2.1 r62.2.2.2.2.2.2.2.2 0 0
      else
      if r49.2.1 a54 = some (.inl 17) then
        (q_X21_is zz adS a54 a1 p2 r49.2.1 r49.2.2.1 r49.2.2.2.1 r49.2.2.2.2.1 r49.2.2.2.2.2.1 r49.2.2.2.2.2.2.1 r49.2.2.2.2.2.2.2.1 r49.2.2.2.2.2.2.2.2).bind fun r65 =>
        if r65.1 = 0 then
          some ((0 : Int32), r65.2.1, r65.2.2.1, r65.2.2.2.1, r65.2.2.2.2.1, r65.2.2.2.2.2.1, r65.2.2.2.2.2.2.1, r65.2.2.2.2.2.2.2.1, r65.2.2.2.2.2.2.2.2)
        else
          w22_is_j24 r65.2.1 r65.2.2.1 r65.2.2.2.1 r65.2.2.2.2.1 r65.2.2.2.2.2.1 r65.2.2.2.2.2.2.1 r65.2.2.2.2.2.2.2.1 r65.2.2.2.2.2.2.2.2 0 0
      else
      gdp (r49.2.1 a54 = some (.inl 18)) <|
      (q_X22_is zz adS a54 a1 p2 r49.2.1 r49.2.2.1 r49.2.2.2.1 r49.2.2.2.2.1 r49.2.2.2.2.2.1 r49.2.2.2.2.2.2.1 r49.2.2.2.2.2.2.2.1 r49.2.2.2.2.2.2.2.2).bind fun r68 =>
      if r68.1 = 0 then
        some ((0 : Int32), r68.2.1, r68.2.2.1, r68.2.2.2.1, r68.2.2.2.2.1, r68.2.2.2.2.2.1, r68.2.2.2.2.2.2.1, r68.2.2.2.2.2.2.2.1, r68.2.2.2.2.2.2.2.2)
      else
        w22_is_j24 r68.2.1 r68.2.2.1 r68.2.2.2.1 r68.2.2.2.2.1 r68.2.2.2.2.2.1 r68.2.2.2.2.2.2.1 r68.2.2.2.2.2.2.2.1 r68.2.2.2.2.2.2.2.2 0 0
    else
      w22_is_j24 r49.2.1 r49.2.2.1 r49.2.2.2.1 r49.2.2.2.2.1 r49.2.2.2.2.2.1 r49.2.2.2.2.2.2.1 r49.2.2.2.2.2.2.2.1 r49.2.2.2.2.2.2.2.2 0 0
  else
  if K a3 = some (.inl 17) then
    (q_X21_is zz adS a3 a1 p2 K I J X A B Q n).bind fun r71 =>
    if r71.1 = 0 then
      gdp (r71.2.1 o = some (.inl 18)) <|
      lt (r71.2.2.2.2.1 1801 o) fun x75 =>
      (x75).bind fun a76 =>
      if r71.2.1 a76 = some (.inl 14) then
        (q_X18_is zz adS a76 a1 p2 r71.2.1 r71.2.2.1 r71.2.2.2.1 r71.2.2.2.2.1 r71.2.2.2.2.2.1 r71.2.2.2.2.2.2.1 r71.2.2.2.2.2.2.2.1 r71.2.2.2.2.2.2.2.2).bind fun r78 =>
        if r78.1 = 0 then
          some ((0 : Int32), r78.2.1, r78.2.2.1, r78.2.2.2.1, r78.2.2.2.2.1, r78.2.2.2.2.2.1, r78.2.2.2.2.2.2.1, r78.2.2.2.2.2.2.2.1, r78.2.2.2.2.2.2.2.2)
        else
          w22_is_j24 r78.2.1 r78.2.2.1 r78.2.2.2.1 r78.2.2.2.2.1 r78.2.2.2.2.2.1 r78.2.2.2.2.2.2.1 r78.2.2.2.2.2.2.2.1 r78.2.2.2.2.2.2.2.2 0 0
      else
      if r71.2.1 a76 = some (.inl 15) then
        (q_X19_is zz adS a76 a1 p2 r71.2.1 r71.2.2.1 r71.2.2.2.1 r71.2.2.2.2.1 r71.2.2.2.2.2.1 r71.2.2.2.2.2.2.1 r71.2.2.2.2.2.2.2.1 r71.2.2.2.2.2.2.2.2).bind fun r81 =>
        if r81.1 = 0 then
          some ((0 : Int32), r81.2.1, r81.2.2.1, r81.2.2.2.1, r81.2.2.2.2.1, r81.2.2.2.2.2.1, r81.2.2.2.2.2.2.1, r81.2.2.2.2.2.2.2.1, r81.2.2.2.2.2.2.2.2)
        else
          w22_is_j24 r81.2.1 r81.2.2.1 r81.2.2.2.1 r81.2.2.2.2.1 r81.2.2.2.2.2.1 r81.2.2.2.2.2.2.1 r81.2.2.2.2.2.2.2.1 r81.2.2.2.2.2.2.2.2 0 0
      else
      if r71.2.1 a76 = some (.inl 16) then
        (q_X20_is zz adS a76 a1 p2 r71.2.1 r71.2.2.1 r71.2.2.2.1 r71.2.2.2.2.1 r71.2.2.2.2.2.1 r71.2.2.2.2.2.2.1 r71.2.2.2.2.2.2.2.1 r71.2.2.2.2.2.2.2.2).bind fun r84 =>
        if r84.1 = 0 then
          some ((0 : Int32), r84.2.1, r84.2.2.1, r84.2.2.2.1, r84.2.2.2.2.1, r84.2.2.2.2.2.1, r84.2.2.2.2.2.2.1, r84.2.2.2.2.2.2.2.1, r84.2.2.2.2.2.2.2.2)
        else
          w22_is_j24 r84.2.1 r84.2.2.1 r84.2.2.2.1 r84.2.2.2.2.1 r84.2.2.2.2.2.1 r84.2.2.2.2.2.2.1 r84.2.2.2.2.2.2.2.1 r84.2.2.2.2.2.2.2.2 0 0
      else
      if r71.2.1 a76 = some (.inl 17) then
        (q_X21_is zz adS a76 a1 p2 r71.2.1 r71.2.2.1 r71.2.2.2.1 r71.2.2.2.2.1 r71.2.2.2.2.2.1 r71.2.2.2.2.2.2.1 r71.2.2.2.2.2.2.2.1 r71.2.2.2.2.2.2.2.2).bind fun r87 =>
        if r87.1 = 0 then
          some ((0 : Int32), r87.2.1, r87.2.2.1, r87.2.2.2.1, r87.2.2.2.2.1, r87.2.2.2.2.2.1, r87.2.2.2.2.2.2.1, r87.2.2.2.2.2.2.2.1, r87.2.2.2.2.2.2.2.2)
        else
          w22_is_j24 r87.2.1 r87.2.2.1 r87.2.2.2.1 r87.2.2.2.2.1 r87.2.2.2.2.2.1 r87.2.2.2.2.2.2.1 r87.2.2.2.2.2.2.2.1 r87.2.2.2.2.2.2.2.2 0 0
      else
      gdp (r71.2.1 a76 = some (.inl 18)) <|
      (q_X22_is zz adS a76 a1 p2 r71.2.1 r71.2.2.1 r71.2.2.2.1 r71.2.2.2.2.1 r71.2.2.2.2.2.1 r71.2.2.2.2.2.2.1 r71.2.2.2.2.2.2.2.1 r71.2.2.2.2.2.2.2.2).bind fun r90 =>
      if r90.1 = 0 then
        some ((0 : Int32), r90.2.1, r90.2.2.1, r90.2.2.2.1, r90.2.2.2.2.1, r90.2.2.2.2.2.1, r90.2.2.2.2.2.2.1, r90.2.2.2.2.2.2.2.1, r90.2.2.2.2.2.2.2.2)
      else
        w22_is_j24 r90.2.1 r90.2.2.1 r90.2.2.2.1 r90.2.2.2.2.1 r90.2.2.2.2.2.1 r90.2.2.2.2.2.2.1 r90.2.2.2.2.2.2.2.1 r90.2.2.2.2.2.2.2.2 0 0
    else
      w22_is_j24 r71.2.1 r71.2.2.1 r71.2.2.2.1 r71.2.2.2.2.1 r71.2.2.2.2.2.1 r71.2.2.2.2.2.2.1 r71.2.2.2.2.2.2.2.1 r71.2.2.2.2.2.2.2.2 0 0
  else
  gdp (K a3 = some (.inl 18)) <|
  (q_X22_is zz adS a3 a1 p2 K I J X A B Q n).bind fun r93 =>
  if r93.1 = 0 then
    gdp (r93.2.1 o = some (.inl 18)) <|
    lt (r93.2.2.2.2.1 1801 o) fun x97 =>
    (x97).bind fun a98 =>
    if r93.2.1 a98 = some (.inl 14) then
      (q_X18_is zz adS a98 a1 p2 r93.2.1 r93.2.2.1 r93.2.2.2.1 r93.2.2.2.2.1 r93.2.2.2.2.2.1 r93.2.2.2.2.2.2.1 r93.2.2.2.2.2.2.2.1 r93.2.2.2.2.2.2.2.2).bind fun r100 =>
      if r100.1 = 0 then
        some ((0 : Int32), r100.2.1, r100.2.2.1, r100.2.2.2.1, r100.2.2.2.2.1, r100.2.2.2.2.2.1, r100.2.2.2.2.2.2.1, r100.2.2.2.2.2.2.2.1, r100.2.2.2.2.2.2.2.2)
      else
        w22_is_j24 r100.2.1 r100.2.2.1 r100.2.2.2.1 r100.2.2.2.2.1 r100.2.2.2.2.2.1 r100.2.2.2.2.2.2.1 r100.2.2.2.2.2.2.2.1 r100.2.2.2.2.2.2.2.2 0 0
    else
    if r93.2.1 a98 = some (.inl 15) then
      (q_X19_is zz adS a98 a1 p2 r93.2.1 r93.2.2.1 r93.2.2.2.1 r93.2.2.2.2.1 r93.2.2.2.2.2.1 r93.2.2.2.2.2.2.1 r93.2.2.2.2.2.2.2.1 r93.2.2.2.2.2.2.2.2).bind fun r103 =>
      if r103.1 = 0 then
        some ((0 : Int32), r103.2.1, r103.2.2.1, r103.2.2.2.1, r103.2.2.2.2.1, r103.2.2.2.2.2.1, r103.2.2.2.2.2.2.1, r103.2.2.2.2.2.2.2.1, r103.2.2.2.2.2.2.2.2)
      else
        w22_is_j24 r103.2.1 r103.2.2.1 r103.2.2.2.1 r103.2.2.2.2.1 r103.2.2.2.2.2.1 r103.2.2.2.2.2.2.1 r103.2.2.2.2.2.2.2.1 r103.2.2.2.2.2.2.2.2 0 0
    else
    if r93.2.1 a98 = some (.inl 16) then
      (q_X20_is zz adS a98 a1 p2 r93.2.1 r93.2.2.1 r93.2.2.2.1 r93.2.2.2.2.1 r93.2.2.2.2.2.1 r93.2.2.2.2.2.2.1 r93.2.2.2.2.2.2.2.1 r93.2.2.2.2.2.2.2.2).bind fun r106 =>
      if r106.1 = 0 then
        some ((0 : Int32), r106.2.1, r106.2.2.1, r106.2.2.2.1, r106.2.2.2.2.1, r106.2.2.2.2.2.1, r106.2.2.2.2.2.2.1, r106.2.2.2.2.2.2.2.1, r106.2.2.2.2.2.2.2.2)
      else
        w22_is_j24 r106.2.1 r106.2.2.1 r106.2.2.2.1 r106.2.2.2.2.1 r106.2.2.2.2.2.1 r106.2.2.2.2.2.2.1 r106.2.2.2.2.2.2.2.1 r106.2.2.2.2.2.2.2.2 0 0
    else
    if r93.2.1 a98 = some (.inl 17) then
      (q_X21_is zz adS a98 a1 p2 r93.2.1 r93.2.2.1 r93.2.2.2.1 r93.2.2.2.2.1 r93.2.2.2.2.2.1 r93.2.2.2.2.2.2.1 r93.2.2.2.2.2.2.2.1 r93.2.2.2.2.2.2.2.2).bind fun r109 =>
      if r109.1 = 0 then
        some ((0 : Int32), r109.2.1, r109.2.2.1, r109.2.2.2.1, r109.2.2.2.2.1, r109.2.2.2.2.2.1, r109.2.2.2.2.2.2.1, r109.2.2.2.2.2.2.2.1, r109.2.2.2.2.2.2.2.2)
      else
        w22_is_j24 r109.2.1 r109.2.2.1 r109.2.2.2.1 r109.2.2.2.2.1 r109.2.2.2.2.2.1 r109.2.2.2.2.2.2.1 r109.2.2.2.2.2.2.2.1 r109.2.2.2.2.2.2.2.2 0 0
    else
    gdp (r93.2.1 a98 = some (.inl 18)) <|
    (q_X22_is zz adS a98 a1 p2 r93.2.1 r93.2.2.1 r93.2.2.2.1 r93.2.2.2.2.1 r93.2.2.2.2.2.1 r93.2.2.2.2.2.2.1 r93.2.2.2.2.2.2.2.1 r93.2.2.2.2.2.2.2.2).bind fun r112 =>
    if r112.1 = 0 then
      some ((0 : Int32), r112.2.1, r112.2.2.1, r112.2.2.2.1, r112.2.2.2.2.1, r112.2.2.2.2.2.1, r112.2.2.2.2.2.2.1, r112.2.2.2.2.2.2.2.1, r112.2.2.2.2.2.2.2.2)
    else
      w22_is_j24 r112.2.1 r112.2.2.1 r112.2.2.2.1 r112.2.2.2.2.1 r112.2.2.2.2.2.1 r112.2.2.2.2.2.2.1 r112.2.2.2.2.2.2.2.1 r112.2.2.2.2.2.2.2.2 0 0
  else
    w22_is_j24 r93.2.1 r93.2.2.1 r93.2.2.2.1 r93.2.2.2.2.1 r93.2.2.2.2.2.1 r93.2.2.2.2.2.2.1 r93.2.2.2.2.2.2.2.1 r93.2.2.2.2.2.2.2.2 0 0
noncomputable def wG_X18_is : Nat → (Nat → (Nat → Nat) → Nat → Nat → Int32 → gK → gI → gJ → gX → gI → gJ → gX → Nat → Option (Int32 × gK × gI × gJ × gX × gI × gJ × gX × Nat)) × (Nat → (Nat → Nat) → Nat → Nat → Int32 → gK → gI → gJ → gX → gI → gJ → gX → Nat → Option (Int32 × gK × gI × gJ × gX × gI × gJ × gX × Nat)) × (Nat → (Nat → Nat) → Nat → Nat → Int32 → gK → gI → gJ → gX → gI → gJ → gX → Nat → Option (Int32 × gK × gI × gJ × gX × gI × gJ × gX × Nat)) × (Nat → (Nat → Nat) → Nat → Nat → Int32 → gK → gI → gJ → gX → gI → gJ → gX → Nat → Option (Int32 × gK × gI × gJ × gX × gI × gJ × gX × Nat)) × (Nat → (Nat → Nat) → Nat → Nat → Int32 → gK → gI → gJ → gX → gI → gJ → gX → Nat → Option (Int32 × gK × gI × gJ × gX × gI × gJ × gX × Nat))
  | 0 => (fun _ _ _ _ _ _ _ _ _ _ _ _ _ => none, fun _ _ _ _ _ _ _ _ _ _ _ _ _ => none, fun _ _ _ _ _ _ _ _ _ _ _ _ _ => none, fun _ _ _ _ _ _ _ _ _ _ _ _ _ => none, fun _ _ _ _ _ _ _ _ _ _ _ _ _ => none)
  | d + 1 => (wb18_is ((wG_X18_is d).1) ((wG_X18_is d).2.1) ((wG_X18_is d).2.2.1) ((wG_X18_is d).2.2.2.1) ((wG_X18_is d).2.2.2.2), wb19_is ((wG_X18_is d).1) ((wG_X18_is d).2.1) ((wG_X18_is d).2.2.1) ((wG_X18_is d).2.2.2.1) ((wG_X18_is d).2.2.2.2), wb20_is ((wG_X18_is d).1) ((wG_X18_is d).2.1) ((wG_X18_is d).2.2.1) ((wG_X18_is d).2.2.2.1) ((wG_X18_is d).2.2.2.2), wb21_is ((wG_X18_is d).1) ((wG_X18_is d).2.1) ((wG_X18_is d).2.2.1) ((wG_X18_is d).2.2.2.1) ((wG_X18_is d).2.2.2.2), wb22_is ((wG_X18_is d).1) ((wG_X18_is d).2.1) ((wG_X18_is d).2.2.1) ((wG_X18_is d).2.2.2.1) ((wG_X18_is d).2.2.2.2))
noncomputable def w18_is (d : Nat) : Nat → (Nat → Nat) → Nat → Nat → Int32 → gK → gI → gJ → gX → gI → gJ → gX → Nat → Option (Int32 × gK × gI × gJ × gX × gI × gJ × gX × Nat) := (wG_X18_is d).1
noncomputable def w19_is (d : Nat) : Nat → (Nat → Nat) → Nat → Nat → Int32 → gK → gI → gJ → gX → gI → gJ → gX → Nat → Option (Int32 × gK × gI × gJ × gX × gI × gJ × gX × Nat) := (wG_X18_is d).2.1
noncomputable def w20_is (d : Nat) : Nat → (Nat → Nat) → Nat → Nat → Int32 → gK → gI → gJ → gX → gI → gJ → gX → Nat → Option (Int32 × gK × gI × gJ × gX × gI × gJ × gX × Nat) := (wG_X18_is d).2.2.1
noncomputable def w21_is (d : Nat) : Nat → (Nat → Nat) → Nat → Nat → Int32 → gK → gI → gJ → gX → gI → gJ → gX → Nat → Option (Int32 × gK × gI × gJ × gX × gI × gJ × gX × Nat) := (wG_X18_is d).2.2.2.1
noncomputable def w22_is (d : Nat) : Nat → (Nat → Nat) → Nat → Nat → Int32 → gK → gI → gJ → gX → gI → gJ → gX → Nat → Option (Int32 × gK × gI × gJ × gX × gI × gJ × gX × Nat) := (wG_X18_is d).2.2.2.2
set_option maxHeartbeats 4000000 in
theorem y18_is (l : Launch) (d : Nat) (q_X18_is : Nat → (Nat → Nat) → Nat → Nat → Int32 → gK → gI → gJ → gX → gI → gJ → gX → Nat → Option (Int32 × gK × gI × gJ × gX × gI × gJ × gX × Nat)) (q_X19_is : Nat → (Nat → Nat) → Nat → Nat → Int32 → gK → gI → gJ → gX → gI → gJ → gX → Nat → Option (Int32 × gK × gI × gJ × gX × gI × gJ × gX × Nat)) (q_X20_is : Nat → (Nat → Nat) → Nat → Nat → Int32 → gK → gI → gJ → gX → gI → gJ → gX → Nat → Option (Int32 × gK × gI × gJ × gX × gI × gJ × gX × Nat)) (q_X21_is : Nat → (Nat → Nat) → Nat → Nat → Int32 → gK → gI → gJ → gX → gI → gJ → gX → Nat → Option (Int32 × gK × gI × gJ × gX × gI × gJ × gX × Nat)) (q_X22_is : Nat → (Nat → Nat) → Nat → Nat → Int32 → gK → gI → gJ → gX → gI → gJ → gX → Nat → Option (Int32 × gK × gI × gJ × gX × gI × gJ × gX × Nat)) (ih_X18_is : ∀ (G : gG) (K : gK) (I : gI) (J : gJ) (X : gX) (A : gI) (B : gJ) (Q : gX) (n : Nat) (o : Nat) (a1 : Nat) (p2 : Int32) (out : Int32 × gK × gI × gJ × gX × gI × gJ × gX × Nat) (hf : q_X18_is G.2.2 (aK G) o a1 p2 K I J X A B Q n = some out) , GMetX l yX18_is cX18_is 3 (some .boolean) (d + 1) (d * 23 + 22) G [.ref o, .ref a1, .int p2] K I J X A B Q (.inr (some (.int out.1))) out.2.1 out.2.2.1 out.2.2.2.1 out.2.2.2.2.1 out.2.2.2.2.2.1 out.2.2.2.2.2.2.1 out.2.2.2.2.2.2.2.1 0 0) (ih_X19_is : ∀ (G : gG) (K : gK) (I : gI) (J : gJ) (X : gX) (A : gI) (B : gJ) (Q : gX) (n : Nat) (o : Nat) (a1 : Nat) (p2 : Int32) (out : Int32 × gK × gI × gJ × gX × gI × gJ × gX × Nat) (hf : q_X19_is G.2.2 (aK G) o a1 p2 K I J X A B Q n = some out) , GMetX l yX19_is cX19_is 4 (some .boolean) (d + 1) (d * 23 + 22) G [.ref o, .ref a1, .int p2] K I J X A B Q (.inr (some (.int out.1))) out.2.1 out.2.2.1 out.2.2.2.1 out.2.2.2.2.1 out.2.2.2.2.2.1 out.2.2.2.2.2.2.1 out.2.2.2.2.2.2.2.1 0 0) (ih_X20_is : ∀ (G : gG) (K : gK) (I : gI) (J : gJ) (X : gX) (A : gI) (B : gJ) (Q : gX) (n : Nat) (o : Nat) (a1 : Nat) (p2 : Int32) (out : Int32 × gK × gI × gJ × gX × gI × gJ × gX × Nat) (hf : q_X20_is G.2.2 (aK G) o a1 p2 K I J X A B Q n = some out) , GMetX l yX20_is cX20_is 3 (some .boolean) (d + 1) (d * 23 + 22) G [.ref o, .ref a1, .int p2] K I J X A B Q (.inr (some (.int out.1))) out.2.1 out.2.2.1 out.2.2.2.1 out.2.2.2.2.1 out.2.2.2.2.2.1 out.2.2.2.2.2.2.1 out.2.2.2.2.2.2.2.1 0 0) (ih_X21_is : ∀ (G : gG) (K : gK) (I : gI) (J : gJ) (X : gX) (A : gI) (B : gJ) (Q : gX) (n : Nat) (o : Nat) (a1 : Nat) (p2 : Int32) (out : Int32 × gK × gI × gJ × gX × gI × gJ × gX × Nat) (hf : q_X21_is G.2.2 (aK G) o a1 p2 K I J X A B Q n = some out) , GMetX l yX21_is cX21_is 3 (some .boolean) (d + 1) (d * 23 + 22) G [.ref o, .ref a1, .int p2] K I J X A B Q (.inr (some (.int out.1))) out.2.1 out.2.2.1 out.2.2.2.1 out.2.2.2.2.1 out.2.2.2.2.2.1 out.2.2.2.2.2.2.1 out.2.2.2.2.2.2.2.1 0 0) (ih_X22_is : ∀ (G : gG) (K : gK) (I : gI) (J : gJ) (X : gX) (A : gI) (B : gJ) (Q : gX) (n : Nat) (o : Nat) (a1 : Nat) (p2 : Int32) (out : Int32 × gK × gI × gJ × gX × gI × gJ × gX × Nat) (hf : q_X22_is G.2.2 (aK G) o a1 p2 K I J X A B Q n = some out) , GMetX l yX22_is cX22_is 3 (some .boolean) (d + 1) (d * 23 + 22) G [.ref o, .ref a1, .int p2] K I J X A B Q (.inr (some (.int out.1))) out.2.1 out.2.2.1 out.2.2.2.1 out.2.2.2.2.1 out.2.2.2.2.2.1 out.2.2.2.2.2.2.1 out.2.2.2.2.2.2.2.1 0 0) : ∀ (G : gG) (K : gK) (I : gI) (J : gJ) (X : gX) (A : gI) (B : gJ) (Q : gX) (n : Nat) (o : Nat) (a1 : Nat) (p2 : Int32) (out : Int32 × gK × gI × gJ × gX × gI × gJ × gX × Nat) (hf : wb18_is q_X18_is q_X19_is q_X20_is q_X21_is q_X22_is G.2.2 (aK G) o a1 p2 K I J X A B Q n = some out), GMetX l yX18_is cX18_is 3 (some .boolean) ((d + 1) + 1) ((d + 1) * 23 + 22) G [.ref o, .ref a1, .int p2] K I J X A B Q (.inr (some (.int out.1))) out.2.1 out.2.2.1 out.2.2.2.1 out.2.2.2.2.1 out.2.2.2.2.2.1 out.2.2.2.2.2.2.1 out.2.2.2.2.2.2.2.1 0 0 := by
  intro G K I J X A B Q n o a1 p2 out hf
  refine GMetX.of (y := yX18_is) rfl (Nat.le_of_ble_eq_true rfl) (la := [(0, .ref o), (1, .ref a1), (2, .int p2)]) rfl ?_
  intro p e s m below meth c ls hx hb hr hml hlocks hts hown hname ht hG hR hW hl
  have hown : s.vm.findClass RX18 = some m.cls := hown
  have hS : va_S (gA G) s.heap s.heap [] := va_S.rf
  have hend : ∀ (pc : Nat) (H : Heap) (locs : List Loc) (ls : Array Slot), decode cX18_is pc = .ok (.ireturn, 1) → narrow .boolean (.int out.1) = .int out.1 → RS G out.2.1 out.2.2.1 out.2.2.2.1 out.2.2.2.2.1 out.2.2.2.2.2.1 out.2.2.2.2.2.2.1 out.2.2.2.2.2.2.2.1 H → va_S (gA G) s.heap H locs → W p l e ({ frames := (d + 1) + 1, cells := 0, slots := 0, locals := (d + 1) * 23 + 22 } : Room) s m ([.ref o, .ref a1, .int p2] : List Value).toArray below meth c H locs 0 0 (vx_MQ below (xQ G (.inr (some (.int out.1))) out.2.1 out.2.2.1 out.2.2.2.1 out.2.2.2.2.1 out.2.2.2.2.2.1 out.2.2.2.2.2.2.1 out.2.2.2.2.2.2.2.1) (xX G (.inr (some (.int out.1))) out.2.1 out.2.2.1 out.2.2.2.1 out.2.2.2.2.1 out.2.2.2.2.2.1 out.2.2.2.2.2.2.1 out.2.2.2.2.2.2.2.1) ([.ref o, .ref a1, .int p2] : List Value).toArray s 0 0 (gA G)) (F0 m pc ls [.int out.1]) := fun pc H locs ls hd hz hR hS => x_nret hx hb hr hz hlocks hG hR hS rfl hd
  generalize vx_MQ below (xQ G (.inr (some (.int out.1))) out.2.1 out.2.2.1 out.2.2.2.1 out.2.2.2.2.1 out.2.2.2.2.2.1 out.2.2.2.2.2.2.1 out.2.2.2.2.2.2.2.1) (xX G (.inr (some (.int out.1))) out.2.1 out.2.2.1 out.2.2.2.1 out.2.2.2.2.1 out.2.2.2.2.2.1 out.2.2.2.2.2.2.1 out.2.2.2.2.2.2.2.1) ([.ref o, .ref a1, .int p2] : List Value).toArray s 0 0 (gA G) = Z at hend ⊢
  generalize ([.ref o, .ref a1, .int p2] : List Value).toArray = args at hts hend ⊢
  unfold wb18_is at hf
  refine lv_aload_n hx hb dX18_is_0 rfl (lv_at hl 0 rfl) ?_
  obtain ⟨k1, hf⟩ := gdp_some hf
  obtain ⟨x2, ex2, hf⟩ := lt_some hf
  refine g_getx hx hb hts hown hG hR gFx_X18_7_14 k1 dX18_is_1 ?_
  rw [← ex2]
  refine lv_aload_n hx hb dX18_is_4 rfl (lv_at hl 1 rfl) ?_
  refine lv_iload_n hx hb dX18_is_5 rfl (lv_at hl 2 rfl) ?_
  obtain ⟨a3, ha3, hf⟩ := bind_s hf
  try rw [ha3]
  by_cases k4 : K a3 = some (.inl 14)
  · have hf := ite_t k4 hf
    obtain ⟨r5, hr5, hf⟩ := bind_s hf
    refine x0_gor (vx_runU (As := [.ref a1, .int p2]) (rest := []) (b := a3) ⟨hx, hb, hml, hown, hts⟩ (ih_X18_is G K I J X A B Q n a3 a1 p2 r5 hr5) (va_cwA (x := ⟨"PailRow$Cond", "is", "(LPailRow;I)Z"⟩) (owner := "PailRow$Cond") 2 hts gu_X18_13_14 rfl rfl rfl (hG.2 _ q1522 rfl) ⟨by decide +kernel, by decide +kernel, by decide +kernel⟩ ⟨by dsimp only; omega, by dsimp only; omega⟩) (x_preV hG hR hW hS k4 rfl) rfl rfl hl.1 rfl (lv_room (Nat.le_of_ble_eq_true rfl)) dX18_is_6 ⟨Nat.zero_le _, Nat.zero_le _⟩) hS (fun H locs hR hS => ?_)
    refine lv_if_ne (tgt := 16) hx hb dX18_is_9 (by decide) (fun c6 => ?_) (fun c6 => ?_)
    · have hf := ite_f c6 hf
      refine lv_iconst (v := 0) hx hb dX18_is_16 li_0 ?_
      obtain rfl := some_i hf
      exact hend _ _ _ _ dX18_is_17 nz_0 hR hS
    · have hf := ite_t c6 hf
      refine lv_iconst (v := 1) hx hb dX18_is_12 li_1 ?_
      refine lv_goto (tgt := 17) hx hb dX18_is_13 (by decide) ?_
      obtain rfl := some_i hf
      exact hend _ _ _ _ dX18_is_17 nz_1 hR hS
  have hf := ite_f k4 hf
  by_cases k7 : K a3 = some (.inl 15)
  · have hf := ite_t k7 hf
    obtain ⟨r8, hr8, hf⟩ := bind_s hf
    refine x0_gor (vx_runU (As := [.ref a1, .int p2]) (rest := []) (b := a3) ⟨hx, hb, hml, hown, hts⟩ (ih_X19_is G K I J X A B Q n a3 a1 p2 r8 hr8) (va_cwA (x := ⟨"PailRow$Cond", "is", "(LPailRow;I)Z"⟩) (owner := "PailRow$Cond") 2 hts gu_X18_13_15 rfl rfl rfl (hG.2 _ q1522 rfl) ⟨by decide +kernel, by decide +kernel, by decide +kernel⟩ ⟨by dsimp only; omega, by dsimp only; omega⟩) (x_preV hG hR hW hS k7 rfl) rfl rfl hl.1 rfl (lv_room (Nat.le_of_ble_eq_true rfl)) dX18_is_6 ⟨Nat.zero_le _, Nat.zero_le _⟩) hS (fun H locs hR hS => ?_)
    refine lv_if_ne (tgt := 16) hx hb dX18_is_9 (by decide) (fun c9 => ?_) (fun c9 => ?_)
    · have hf := ite_f c9 hf
      refine lv_iconst (v := 0) hx hb dX18_is_16 li_0 ?_
      obtain rfl := some_i hf
      exact hend _ _ _ _ dX18_is_17 nz_0 hR hS
    · have hf := ite_t c9 hf
      refine lv_iconst (v := 1) hx hb dX18_is_12 li_1 ?_
      refine lv_goto (tgt := 17) hx hb dX18_is_13 (by decide) ?_
      obtain rfl := some_i hf
      exact hend _ _ _ _ dX18_is_17 nz_1 hR hS
  have hf := ite_f k7 hf
  by_cases k10 : K a3 = some (.inl 16)
  · have hf := ite_t k10 hf
    obtain ⟨r11, hr11, hf⟩ := bind_s hf
    refine x0_gor (vx_runU (As := [.ref a1, .int p2]) (rest := []) (b := a3) ⟨hx, hb, hml, hown, hts⟩ (ih_X20_is G K I J X A B Q n a3 a1 p2 r11 hr11) (va_cwA (x := ⟨"PailRow$Cond", "is", "(LPailRow;I)Z"⟩) (owner := "PailRow$Cond") 2 hts gu_X18_13_16 rfl rfl rfl (hG.2 _ q1522 rfl) ⟨by decide +kernel, by decide +kernel, by decide +kernel⟩ ⟨by dsimp only; omega, by dsimp only; omega⟩) (x_preV hG hR hW hS k10 rfl) rfl rfl hl.1 rfl (lv_room (Nat.le_of_ble_eq_true rfl)) dX18_is_6 ⟨Nat.zero_le _, Nat.zero_le _⟩) hS (fun H locs hR hS => ?_)
    refine lv_if_ne (tgt := 16) hx hb dX18_is_9 (by decide) (fun c12 => ?_) (fun c12 => ?_)
    · have hf := ite_f c12 hf
      refine lv_iconst (v := 0) hx hb dX18_is_16 li_0 ?_
      obtain rfl := some_i hf
      exact hend _ _ _ _ dX18_is_17 nz_0 hR hS
    · have hf := ite_t c12 hf
      refine lv_iconst (v := 1) hx hb dX18_is_12 li_1 ?_
      refine lv_goto (tgt := 17) hx hb dX18_is_13 (by decide) ?_
      obtain rfl := some_i hf
      exact hend _ _ _ _ dX18_is_17 nz_1 hR hS
  have hf := ite_f k10 hf
  by_cases k13 : K a3 = some (.inl 17)
  · have hf := ite_t k13 hf
    obtain ⟨r14, hr14, hf⟩ := bind_s hf
    refine x0_gor (vx_runU (As := [.ref a1, .int p2]) (rest := []) (b := a3) ⟨hx, hb, hml, hown, hts⟩ (ih_X21_is G K I J X A B Q n a3 a1 p2 r14 hr14) (va_cwA (x := ⟨"PailRow$Cond", "is", "(LPailRow;I)Z"⟩) (owner := "PailRow$Cond") 2 hts gu_X18_13_17 rfl rfl rfl (hG.2 _ q1522 rfl) ⟨by decide +kernel, by decide +kernel, by decide +kernel⟩ ⟨by dsimp only; omega, by dsimp only; omega⟩) (x_preV hG hR hW hS k13 rfl) rfl rfl hl.1 rfl (lv_room (Nat.le_of_ble_eq_true rfl)) dX18_is_6 ⟨Nat.zero_le _, Nat.zero_le _⟩) hS (fun H locs hR hS => ?_)
    refine lv_if_ne (tgt := 16) hx hb dX18_is_9 (by decide) (fun c15 => ?_) (fun c15 => ?_)
    · have hf := ite_f c15 hf
      refine lv_iconst (v := 0) hx hb dX18_is_16 li_0 ?_
      obtain rfl := some_i hf
      exact hend _ _ _ _ dX18_is_17 nz_0 hR hS
    · have hf := ite_t c15 hf
      refine lv_iconst (v := 1) hx hb dX18_is_12 li_1 ?_
      refine lv_goto (tgt := 17) hx hb dX18_is_13 (by decide) ?_
      obtain rfl := some_i hf
      exact hend _ _ _ _ dX18_is_17 nz_1 hR hS
  have hf := ite_f k13 hf
  obtain ⟨k16, hf⟩ := gdp_some hf
  obtain ⟨r17, hr17, hf⟩ := bind_s hf
  refine x0_gor (vx_runU (As := [.ref a1, .int p2]) (rest := []) (b := a3) ⟨hx, hb, hml, hown, hts⟩ (ih_X22_is G K I J X A B Q n a3 a1 p2 r17 hr17) (va_cwA (x := ⟨"PailRow$Cond", "is", "(LPailRow;I)Z"⟩) (owner := "PailRow$Cond") 2 hts gu_X18_13_18 rfl rfl rfl (hG.2 _ q1522 rfl) ⟨by decide +kernel, by decide +kernel, by decide +kernel⟩ ⟨by dsimp only; omega, by dsimp only; omega⟩) (x_preV hG hR hW hS k16 rfl) rfl rfl hl.1 rfl (lv_room (Nat.le_of_ble_eq_true rfl)) dX18_is_6 ⟨Nat.zero_le _, Nat.zero_le _⟩) hS (fun H locs hR hS => ?_)
  refine lv_if_ne (tgt := 16) hx hb dX18_is_9 (by decide) (fun c18 => ?_) (fun c18 => ?_)
  · have hf := ite_f c18 hf
    refine lv_iconst (v := 0) hx hb dX18_is_16 li_0 ?_
    obtain rfl := some_i hf
    exact hend _ _ _ _ dX18_is_17 nz_0 hR hS
  · have hf := ite_t c18 hf
    refine lv_iconst (v := 1) hx hb dX18_is_12 li_1 ?_
    refine lv_goto (tgt := 17) hx hb dX18_is_13 (by decide) ?_
    obtain rfl := some_i hf
    exact hend _ _ _ _ dX18_is_17 nz_1 hR hS
set_option maxHeartbeats 4000000 in
theorem y19_is (l : Launch) (d : Nat) (q_X18_is : Nat → (Nat → Nat) → Nat → Nat → Int32 → gK → gI → gJ → gX → gI → gJ → gX → Nat → Option (Int32 × gK × gI × gJ × gX × gI × gJ × gX × Nat)) (q_X19_is : Nat → (Nat → Nat) → Nat → Nat → Int32 → gK → gI → gJ → gX → gI → gJ → gX → Nat → Option (Int32 × gK × gI × gJ × gX × gI × gJ × gX × Nat)) (q_X20_is : Nat → (Nat → Nat) → Nat → Nat → Int32 → gK → gI → gJ → gX → gI → gJ → gX → Nat → Option (Int32 × gK × gI × gJ × gX × gI × gJ × gX × Nat)) (q_X21_is : Nat → (Nat → Nat) → Nat → Nat → Int32 → gK → gI → gJ → gX → gI → gJ → gX → Nat → Option (Int32 × gK × gI × gJ × gX × gI × gJ × gX × Nat)) (q_X22_is : Nat → (Nat → Nat) → Nat → Nat → Int32 → gK → gI → gJ → gX → gI → gJ → gX → Nat → Option (Int32 × gK × gI × gJ × gX × gI × gJ × gX × Nat)) (ih_X18_is : ∀ (G : gG) (K : gK) (I : gI) (J : gJ) (X : gX) (A : gI) (B : gJ) (Q : gX) (n : Nat) (o : Nat) (a1 : Nat) (p2 : Int32) (out : Int32 × gK × gI × gJ × gX × gI × gJ × gX × Nat) (hf : q_X18_is G.2.2 (aK G) o a1 p2 K I J X A B Q n = some out) , GMetX l yX18_is cX18_is 3 (some .boolean) (d + 1) (d * 23 + 22) G [.ref o, .ref a1, .int p2] K I J X A B Q (.inr (some (.int out.1))) out.2.1 out.2.2.1 out.2.2.2.1 out.2.2.2.2.1 out.2.2.2.2.2.1 out.2.2.2.2.2.2.1 out.2.2.2.2.2.2.2.1 0 0) (ih_X19_is : ∀ (G : gG) (K : gK) (I : gI) (J : gJ) (X : gX) (A : gI) (B : gJ) (Q : gX) (n : Nat) (o : Nat) (a1 : Nat) (p2 : Int32) (out : Int32 × gK × gI × gJ × gX × gI × gJ × gX × Nat) (hf : q_X19_is G.2.2 (aK G) o a1 p2 K I J X A B Q n = some out) , GMetX l yX19_is cX19_is 4 (some .boolean) (d + 1) (d * 23 + 22) G [.ref o, .ref a1, .int p2] K I J X A B Q (.inr (some (.int out.1))) out.2.1 out.2.2.1 out.2.2.2.1 out.2.2.2.2.1 out.2.2.2.2.2.1 out.2.2.2.2.2.2.1 out.2.2.2.2.2.2.2.1 0 0) (ih_X20_is : ∀ (G : gG) (K : gK) (I : gI) (J : gJ) (X : gX) (A : gI) (B : gJ) (Q : gX) (n : Nat) (o : Nat) (a1 : Nat) (p2 : Int32) (out : Int32 × gK × gI × gJ × gX × gI × gJ × gX × Nat) (hf : q_X20_is G.2.2 (aK G) o a1 p2 K I J X A B Q n = some out) , GMetX l yX20_is cX20_is 3 (some .boolean) (d + 1) (d * 23 + 22) G [.ref o, .ref a1, .int p2] K I J X A B Q (.inr (some (.int out.1))) out.2.1 out.2.2.1 out.2.2.2.1 out.2.2.2.2.1 out.2.2.2.2.2.1 out.2.2.2.2.2.2.1 out.2.2.2.2.2.2.2.1 0 0) (ih_X21_is : ∀ (G : gG) (K : gK) (I : gI) (J : gJ) (X : gX) (A : gI) (B : gJ) (Q : gX) (n : Nat) (o : Nat) (a1 : Nat) (p2 : Int32) (out : Int32 × gK × gI × gJ × gX × gI × gJ × gX × Nat) (hf : q_X21_is G.2.2 (aK G) o a1 p2 K I J X A B Q n = some out) , GMetX l yX21_is cX21_is 3 (some .boolean) (d + 1) (d * 23 + 22) G [.ref o, .ref a1, .int p2] K I J X A B Q (.inr (some (.int out.1))) out.2.1 out.2.2.1 out.2.2.2.1 out.2.2.2.2.1 out.2.2.2.2.2.1 out.2.2.2.2.2.2.1 out.2.2.2.2.2.2.2.1 0 0) (ih_X22_is : ∀ (G : gG) (K : gK) (I : gI) (J : gJ) (X : gX) (A : gI) (B : gJ) (Q : gX) (n : Nat) (o : Nat) (a1 : Nat) (p2 : Int32) (out : Int32 × gK × gI × gJ × gX × gI × gJ × gX × Nat) (hf : q_X22_is G.2.2 (aK G) o a1 p2 K I J X A B Q n = some out) , GMetX l yX22_is cX22_is 3 (some .boolean) (d + 1) (d * 23 + 22) G [.ref o, .ref a1, .int p2] K I J X A B Q (.inr (some (.int out.1))) out.2.1 out.2.2.1 out.2.2.2.1 out.2.2.2.2.1 out.2.2.2.2.2.1 out.2.2.2.2.2.2.1 out.2.2.2.2.2.2.2.1 0 0) : ∀ (G : gG) (K : gK) (I : gI) (J : gJ) (X : gX) (A : gI) (B : gJ) (Q : gX) (n : Nat) (o : Nat) (a1 : Nat) (p2 : Int32) (out : Int32 × gK × gI × gJ × gX × gI × gJ × gX × Nat) (hf : wb19_is q_X18_is q_X19_is q_X20_is q_X21_is q_X22_is G.2.2 (aK G) o a1 p2 K I J X A B Q n = some out), GMetX l yX19_is cX19_is 4 (some .boolean) ((d + 1) + 1) ((d + 1) * 23 + 22) G [.ref o, .ref a1, .int p2] K I J X A B Q (.inr (some (.int out.1))) out.2.1 out.2.2.1 out.2.2.2.1 out.2.2.2.2.1 out.2.2.2.2.2.1 out.2.2.2.2.2.2.1 out.2.2.2.2.2.2.2.1 0 0 := by
  intro G K I J X A B Q n o a1 p2 out hf
  refine GMetX.of (y := yX19_is) rfl (Nat.le_of_ble_eq_true rfl) (la := [(0, .ref o), (1, .ref a1), (2, .int p2)]) rfl ?_
  intro p e s m below meth c ls hx hb hr hml hlocks hts hown hname ht hG hR hW hl
  have hown : s.vm.findClass RX19 = some m.cls := hown
  have hS : va_S (gA G) s.heap s.heap [] := va_S.rf
  have hend : ∀ (pc : Nat) (H : Heap) (locs : List Loc) (ls : Array Slot), decode cX19_is pc = .ok (.ireturn, 1) → narrow .boolean (.int out.1) = .int out.1 → RS G out.2.1 out.2.2.1 out.2.2.2.1 out.2.2.2.2.1 out.2.2.2.2.2.1 out.2.2.2.2.2.2.1 out.2.2.2.2.2.2.2.1 H → va_S (gA G) s.heap H locs → W p l e ({ frames := (d + 1) + 1, cells := 0, slots := 0, locals := (d + 1) * 23 + 22 } : Room) s m ([.ref o, .ref a1, .int p2] : List Value).toArray below meth c H locs 0 0 (vx_MQ below (xQ G (.inr (some (.int out.1))) out.2.1 out.2.2.1 out.2.2.2.1 out.2.2.2.2.1 out.2.2.2.2.2.1 out.2.2.2.2.2.2.1 out.2.2.2.2.2.2.2.1) (xX G (.inr (some (.int out.1))) out.2.1 out.2.2.1 out.2.2.2.1 out.2.2.2.2.1 out.2.2.2.2.2.1 out.2.2.2.2.2.2.1 out.2.2.2.2.2.2.2.1) ([.ref o, .ref a1, .int p2] : List Value).toArray s 0 0 (gA G)) (F0 m pc ls [.int out.1]) := fun pc H locs ls hd hz hR hS => x_nret hx hb hr hz hlocks hG hR hS rfl hd
  generalize vx_MQ below (xQ G (.inr (some (.int out.1))) out.2.1 out.2.2.1 out.2.2.2.1 out.2.2.2.2.1 out.2.2.2.2.2.1 out.2.2.2.2.2.2.1 out.2.2.2.2.2.2.2.1) (xX G (.inr (some (.int out.1))) out.2.1 out.2.2.1 out.2.2.2.1 out.2.2.2.2.1 out.2.2.2.2.2.1 out.2.2.2.2.2.2.1 out.2.2.2.2.2.2.2.1) ([.ref o, .ref a1, .int p2] : List Value).toArray s 0 0 (gA G) = Z at hend ⊢
  generalize ([.ref o, .ref a1, .int p2] : List Value).toArray = args at hts hend ⊢
  unfold wb19_is at hf
  refine lv_aload_n hx hb dX19_is_0 rfl (lv_at hl 0 rfl) ?_
  refine lv_aload_n hx hb dX19_is_1 rfl (lv_at hl 1 rfl) ?_
  refine lv_iload_n hx hb dX19_is_2 rfl (lv_at hl 2 rfl) ?_
  obtain ⟨k1, hf⟩ := gdp_some hf
  obtain ⟨r2, hr2, hf⟩ := bind_s hf
  refine x0_gor (vx_runV (As := [.ref a1, .int p2]) (rest := []) (b := o) ⟨hx, hb, hml, hown, hts⟩ (m19_of_w l G K I J X A B Q n o a1 p2 r2 hr2) ⟨callB_of 2 hts (lw_meth q1536) rfl rfl rfl (hts _ q131) (hts _ q1533) (by decide +kernel) ⟨by dsimp only; omega, by dsimp only; omega⟩, hts _ q1535, hts _ qs34⟩ (x_preV hG hR hW hS k1 rfl) rfl rfl hl.1 rfl (lv_room (Nat.le_of_ble_eq_true rfl)) dX19_is_3 ⟨Nat.zero_le _, Nat.zero_le _⟩) hS (fun H locs hR hS => ?_)
  refine lv_istore_n (lv' := [(3, .int r2.1), (0, .ref o), (1, .ref a1), (2, .int p2)]) hx hb dX19_is_6 rfl hl (by decide) rfl (fun ls hl => ?_)
  refine lv_aload_n hx hb dX19_is_7 rfl (lv_at hl 1 rfl) ?_
  obtain ⟨k3, hf⟩ := gdp_some hf
  obtain ⟨v4, ev4, hf⟩ := lt_some hf
  refine n_geti (v := v4) hx hb hts hown hG hR gFi_X19_13_15 k3 ev4.symm dX19_is_8 ?_
  refine lv_bipush (v := 60) hx hb dX19_is_11 lb_60 ?_
  refine lv_icmp_ne (tgt := 32) hx hb dX19_is_13 (by decide) (fun c5 => ?_) (fun c5 => ?_)
  · have hf := ite_f c5 hf
    refine lv_aload_n hx hb dX19_is_32 rfl (lv_at hl 1 rfl) ?_
    refine n_geti (v := v4) hx hb hts hown hG hR gFi_X19_13_15 k3 ev4.symm dX19_is_33 ?_
    refine lv_bipush (v := 61) hx hb dX19_is_36 lb_61 ?_
    refine lv_icmp_ne (tgt := 57) hx hb dX19_is_38 (by decide) (fun c6 => ?_) (fun c6 => ?_)
    · have hf := ite_f c6 hf
      refine lv_iload_n hx hb dX19_is_57 rfl (lv_at hl 0 rfl) ?_
      refine lv_aload_n hx hb dX19_is_58 rfl (lv_at hl 1 rfl) ?_
      obtain ⟨v7, ev7, hf⟩ := lt_some hf
      refine n_geti (v := v7) hx hb hts hown hG hR gFi_X19_16_15 k3 ev7.symm dX19_is_59 ?_
      refine lv_icmp_le (tgt := 69) hx hb dX19_is_62 (by decide) (fun c8 => ?_) (fun c8 => ?_)
      · have hf := ite_t c8 hf
        refine lv_iconst (v := 0) hx hb dX19_is_69 li_0 ?_
        obtain rfl := some_i hf
        exact hend _ _ _ _ dX19_is_70 nz_0 hR hS
      · have hf := ite_f c8 hf
        refine lv_iconst (v := 1) hx hb dX19_is_65 li_1 ?_
        refine lv_goto (tgt := 70) hx hb dX19_is_66 (by decide) ?_
        obtain rfl := some_i hf
        exact hend _ _ _ _ dX19_is_70 nz_1 hR hS
    · have hf := ite_t c6 hf
      refine lv_iload_n hx hb dX19_is_41 rfl (lv_at hl 0 rfl) ?_
      refine lv_aload_n hx hb dX19_is_42 rfl (lv_at hl 1 rfl) ?_
      obtain ⟨v9, ev9, hf⟩ := lt_some hf
      refine n_geti (v := v9) hx hb hts hown hG hR gFi_X19_16_15 k3 ev9.symm dX19_is_43 ?_
      refine lv_icmp_ne (tgt := 53) hx hb dX19_is_46 (by decide) (fun c10 => ?_) (fun c10 => ?_)
      · have hf := ite_f c10 hf
        refine lv_iconst (v := 0) hx hb dX19_is_53 li_0 ?_
        refine lv_goto (tgt := 70) hx hb dX19_is_54 (by decide) ?_
        obtain rfl := some_i hf
        exact hend _ _ _ _ dX19_is_70 nz_0 hR hS
      · have hf := ite_t c10 hf
        refine lv_iconst (v := 1) hx hb dX19_is_49 li_1 ?_
        refine lv_goto (tgt := 70) hx hb dX19_is_50 (by decide) ?_
        obtain rfl := some_i hf
        exact hend _ _ _ _ dX19_is_70 nz_1 hR hS
  · have hf := ite_t c5 hf
    refine lv_iload_n hx hb dX19_is_16 rfl (lv_at hl 0 rfl) ?_
    refine lv_aload_n hx hb dX19_is_17 rfl (lv_at hl 1 rfl) ?_
    obtain ⟨v11, ev11, hf⟩ := lt_some hf
    refine n_geti (v := v11) hx hb hts hown hG hR gFi_X19_16_15 k3 ev11.symm dX19_is_18 ?_
    refine lv_icmp_ge (tgt := 28) hx hb dX19_is_21 (by decide) (fun c12 => ?_) (fun c12 => ?_)
    · have hf := ite_t c12 hf
      refine lv_iconst (v := 0) hx hb dX19_is_28 li_0 ?_
      refine lv_goto (tgt := 70) hx hb dX19_is_29 (by decide) ?_
      obtain rfl := some_i hf
      exact hend _ _ _ _ dX19_is_70 nz_0 hR hS
    · have hf := ite_f c12 hf
      refine lv_iconst (v := 1) hx hb dX19_is_24 li_1 ?_
      refine lv_goto (tgt := 70) hx hb dX19_is_25 (by decide) ?_
      obtain rfl := some_i hf
      exact hend _ _ _ _ dX19_is_70 nz_1 hR hS
set_option maxHeartbeats 4000000 in
theorem y20_is (l : Launch) (d : Nat) (q_X18_is : Nat → (Nat → Nat) → Nat → Nat → Int32 → gK → gI → gJ → gX → gI → gJ → gX → Nat → Option (Int32 × gK × gI × gJ × gX × gI × gJ × gX × Nat)) (q_X19_is : Nat → (Nat → Nat) → Nat → Nat → Int32 → gK → gI → gJ → gX → gI → gJ → gX → Nat → Option (Int32 × gK × gI × gJ × gX × gI × gJ × gX × Nat)) (q_X20_is : Nat → (Nat → Nat) → Nat → Nat → Int32 → gK → gI → gJ → gX → gI → gJ → gX → Nat → Option (Int32 × gK × gI × gJ × gX × gI × gJ × gX × Nat)) (q_X21_is : Nat → (Nat → Nat) → Nat → Nat → Int32 → gK → gI → gJ → gX → gI → gJ → gX → Nat → Option (Int32 × gK × gI × gJ × gX × gI × gJ × gX × Nat)) (q_X22_is : Nat → (Nat → Nat) → Nat → Nat → Int32 → gK → gI → gJ → gX → gI → gJ → gX → Nat → Option (Int32 × gK × gI × gJ × gX × gI × gJ × gX × Nat)) (ih_X18_is : ∀ (G : gG) (K : gK) (I : gI) (J : gJ) (X : gX) (A : gI) (B : gJ) (Q : gX) (n : Nat) (o : Nat) (a1 : Nat) (p2 : Int32) (out : Int32 × gK × gI × gJ × gX × gI × gJ × gX × Nat) (hf : q_X18_is G.2.2 (aK G) o a1 p2 K I J X A B Q n = some out) , GMetX l yX18_is cX18_is 3 (some .boolean) (d + 1) (d * 23 + 22) G [.ref o, .ref a1, .int p2] K I J X A B Q (.inr (some (.int out.1))) out.2.1 out.2.2.1 out.2.2.2.1 out.2.2.2.2.1 out.2.2.2.2.2.1 out.2.2.2.2.2.2.1 out.2.2.2.2.2.2.2.1 0 0) (ih_X19_is : ∀ (G : gG) (K : gK) (I : gI) (J : gJ) (X : gX) (A : gI) (B : gJ) (Q : gX) (n : Nat) (o : Nat) (a1 : Nat) (p2 : Int32) (out : Int32 × gK × gI × gJ × gX × gI × gJ × gX × Nat) (hf : q_X19_is G.2.2 (aK G) o a1 p2 K I J X A B Q n = some out) , GMetX l yX19_is cX19_is 4 (some .boolean) (d + 1) (d * 23 + 22) G [.ref o, .ref a1, .int p2] K I J X A B Q (.inr (some (.int out.1))) out.2.1 out.2.2.1 out.2.2.2.1 out.2.2.2.2.1 out.2.2.2.2.2.1 out.2.2.2.2.2.2.1 out.2.2.2.2.2.2.2.1 0 0) (ih_X20_is : ∀ (G : gG) (K : gK) (I : gI) (J : gJ) (X : gX) (A : gI) (B : gJ) (Q : gX) (n : Nat) (o : Nat) (a1 : Nat) (p2 : Int32) (out : Int32 × gK × gI × gJ × gX × gI × gJ × gX × Nat) (hf : q_X20_is G.2.2 (aK G) o a1 p2 K I J X A B Q n = some out) , GMetX l yX20_is cX20_is 3 (some .boolean) (d + 1) (d * 23 + 22) G [.ref o, .ref a1, .int p2] K I J X A B Q (.inr (some (.int out.1))) out.2.1 out.2.2.1 out.2.2.2.1 out.2.2.2.2.1 out.2.2.2.2.2.1 out.2.2.2.2.2.2.1 out.2.2.2.2.2.2.2.1 0 0) (ih_X21_is : ∀ (G : gG) (K : gK) (I : gI) (J : gJ) (X : gX) (A : gI) (B : gJ) (Q : gX) (n : Nat) (o : Nat) (a1 : Nat) (p2 : Int32) (out : Int32 × gK × gI × gJ × gX × gI × gJ × gX × Nat) (hf : q_X21_is G.2.2 (aK G) o a1 p2 K I J X A B Q n = some out) , GMetX l yX21_is cX21_is 3 (some .boolean) (d + 1) (d * 23 + 22) G [.ref o, .ref a1, .int p2] K I J X A B Q (.inr (some (.int out.1))) out.2.1 out.2.2.1 out.2.2.2.1 out.2.2.2.2.1 out.2.2.2.2.2.1 out.2.2.2.2.2.2.1 out.2.2.2.2.2.2.2.1 0 0) (ih_X22_is : ∀ (G : gG) (K : gK) (I : gI) (J : gJ) (X : gX) (A : gI) (B : gJ) (Q : gX) (n : Nat) (o : Nat) (a1 : Nat) (p2 : Int32) (out : Int32 × gK × gI × gJ × gX × gI × gJ × gX × Nat) (hf : q_X22_is G.2.2 (aK G) o a1 p2 K I J X A B Q n = some out) , GMetX l yX22_is cX22_is 3 (some .boolean) (d + 1) (d * 23 + 22) G [.ref o, .ref a1, .int p2] K I J X A B Q (.inr (some (.int out.1))) out.2.1 out.2.2.1 out.2.2.2.1 out.2.2.2.2.1 out.2.2.2.2.2.1 out.2.2.2.2.2.2.1 out.2.2.2.2.2.2.2.1 0 0) : ∀ (G : gG) (K : gK) (I : gI) (J : gJ) (X : gX) (A : gI) (B : gJ) (Q : gX) (n : Nat) (o : Nat) (a1 : Nat) (p2 : Int32) (out : Int32 × gK × gI × gJ × gX × gI × gJ × gX × Nat) (hf : wb20_is q_X18_is q_X19_is q_X20_is q_X21_is q_X22_is G.2.2 (aK G) o a1 p2 K I J X A B Q n = some out), GMetX l yX20_is cX20_is 3 (some .boolean) ((d + 1) + 1) ((d + 1) * 23 + 22) G [.ref o, .ref a1, .int p2] K I J X A B Q (.inr (some (.int out.1))) out.2.1 out.2.2.1 out.2.2.2.1 out.2.2.2.2.1 out.2.2.2.2.2.1 out.2.2.2.2.2.2.1 out.2.2.2.2.2.2.2.1 0 0 := by
  intro G K I J X A B Q n o a1 p2 out hf
  refine GMetX.of (y := yX20_is) rfl (Nat.le_of_ble_eq_true rfl) (la := [(0, .ref o), (1, .ref a1), (2, .int p2)]) rfl ?_
  intro p e s m below meth c ls hx hb hr hml hlocks hts hown hname ht hG hR hW hl
  have hown : s.vm.findClass RX20 = some m.cls := hown
  have hS : va_S (gA G) s.heap s.heap [] := va_S.rf
  have hend : ∀ (pc : Nat) (H : Heap) (locs : List Loc) (ls : Array Slot), decode cX20_is pc = .ok (.ireturn, 1) → narrow .boolean (.int out.1) = .int out.1 → RS G out.2.1 out.2.2.1 out.2.2.2.1 out.2.2.2.2.1 out.2.2.2.2.2.1 out.2.2.2.2.2.2.1 out.2.2.2.2.2.2.2.1 H → va_S (gA G) s.heap H locs → W p l e ({ frames := (d + 1) + 1, cells := 0, slots := 0, locals := (d + 1) * 23 + 22 } : Room) s m ([.ref o, .ref a1, .int p2] : List Value).toArray below meth c H locs 0 0 (vx_MQ below (xQ G (.inr (some (.int out.1))) out.2.1 out.2.2.1 out.2.2.2.1 out.2.2.2.2.1 out.2.2.2.2.2.1 out.2.2.2.2.2.2.1 out.2.2.2.2.2.2.2.1) (xX G (.inr (some (.int out.1))) out.2.1 out.2.2.1 out.2.2.2.1 out.2.2.2.2.1 out.2.2.2.2.2.1 out.2.2.2.2.2.2.1 out.2.2.2.2.2.2.2.1) ([.ref o, .ref a1, .int p2] : List Value).toArray s 0 0 (gA G)) (F0 m pc ls [.int out.1]) := fun pc H locs ls hd hz hR hS => x_nret hx hb hr hz hlocks hG hR hS rfl hd
  generalize vx_MQ below (xQ G (.inr (some (.int out.1))) out.2.1 out.2.2.1 out.2.2.2.1 out.2.2.2.2.1 out.2.2.2.2.2.1 out.2.2.2.2.2.2.1 out.2.2.2.2.2.2.2.1) (xX G (.inr (some (.int out.1))) out.2.1 out.2.2.1 out.2.2.2.1 out.2.2.2.2.1 out.2.2.2.2.2.1 out.2.2.2.2.2.2.1 out.2.2.2.2.2.2.2.1) ([.ref o, .ref a1, .int p2] : List Value).toArray s 0 0 (gA G) = Z at hend ⊢
  generalize ([.ref o, .ref a1, .int p2] : List Value).toArray = args at hts hend ⊢
  unfold wb20_is at hf
  refine lv_aload_n hx hb dX20_is_0 rfl (lv_at hl 1 rfl) ?_
  obtain ⟨k1, hf⟩ := gdp_some hf
  obtain ⟨x2, ex2, hf⟩ := lt_some hf
  refine g_getx hx hb hts hown hG hR gFx_X20_7_0 k1 dX20_is_1 ?_
  rw [← ex2]
  refine lv_iload_n hx hb dX20_is_4 rfl (lv_at hl 2 rfl) ?_
  obtain ⟨a3, ha3, hf⟩ := bind_s hf
  try rw [ha3]
  obtain ⟨n4, hn4, hf⟩ := bind_s hf
  have kn4 := alen_k hn4
  obtain ⟨c5, hf⟩ := gdp_some hf
  obtain ⟨v6, ev6, hf⟩ := lt_some hf
  refine g_iald hx hb hG hR kn4 c5 dX20_is_5 ?_
  rw [← ev6]
  refine lv_if_ne (tgt := 13) hx hb dX20_is_6 (by decide) (fun c7 => ?_) (fun c7 => ?_)
  · have hf := ite_f c7 hf
    refine lv_iconst (v := 0) hx hb dX20_is_13 li_0 ?_
    obtain rfl := some_i hf
    exact hend _ _ _ _ dX20_is_14 nz_0 hR hS
  · have hf := ite_t c7 hf
    refine lv_iconst (v := 1) hx hb dX20_is_9 li_1 ?_
    refine lv_goto (tgt := 14) hx hb dX20_is_10 (by decide) ?_
    obtain rfl := some_i hf
    exact hend _ _ _ _ dX20_is_14 nz_1 hR hS
set_option maxHeartbeats 4000000 in
theorem y21_is (l : Launch) (d : Nat) (q_X18_is : Nat → (Nat → Nat) → Nat → Nat → Int32 → gK → gI → gJ → gX → gI → gJ → gX → Nat → Option (Int32 × gK × gI × gJ × gX × gI × gJ × gX × Nat)) (q_X19_is : Nat → (Nat → Nat) → Nat → Nat → Int32 → gK → gI → gJ → gX → gI → gJ → gX → Nat → Option (Int32 × gK × gI × gJ × gX × gI × gJ × gX × Nat)) (q_X20_is : Nat → (Nat → Nat) → Nat → Nat → Int32 → gK → gI → gJ → gX → gI → gJ → gX → Nat → Option (Int32 × gK × gI × gJ × gX × gI × gJ × gX × Nat)) (q_X21_is : Nat → (Nat → Nat) → Nat → Nat → Int32 → gK → gI → gJ → gX → gI → gJ → gX → Nat → Option (Int32 × gK × gI × gJ × gX × gI × gJ × gX × Nat)) (q_X22_is : Nat → (Nat → Nat) → Nat → Nat → Int32 → gK → gI → gJ → gX → gI → gJ → gX → Nat → Option (Int32 × gK × gI × gJ × gX × gI × gJ × gX × Nat)) (ih_X18_is : ∀ (G : gG) (K : gK) (I : gI) (J : gJ) (X : gX) (A : gI) (B : gJ) (Q : gX) (n : Nat) (o : Nat) (a1 : Nat) (p2 : Int32) (out : Int32 × gK × gI × gJ × gX × gI × gJ × gX × Nat) (hf : q_X18_is G.2.2 (aK G) o a1 p2 K I J X A B Q n = some out) , GMetX l yX18_is cX18_is 3 (some .boolean) (d + 1) (d * 23 + 22) G [.ref o, .ref a1, .int p2] K I J X A B Q (.inr (some (.int out.1))) out.2.1 out.2.2.1 out.2.2.2.1 out.2.2.2.2.1 out.2.2.2.2.2.1 out.2.2.2.2.2.2.1 out.2.2.2.2.2.2.2.1 0 0) (ih_X19_is : ∀ (G : gG) (K : gK) (I : gI) (J : gJ) (X : gX) (A : gI) (B : gJ) (Q : gX) (n : Nat) (o : Nat) (a1 : Nat) (p2 : Int32) (out : Int32 × gK × gI × gJ × gX × gI × gJ × gX × Nat) (hf : q_X19_is G.2.2 (aK G) o a1 p2 K I J X A B Q n = some out) , GMetX l yX19_is cX19_is 4 (some .boolean) (d + 1) (d * 23 + 22) G [.ref o, .ref a1, .int p2] K I J X A B Q (.inr (some (.int out.1))) out.2.1 out.2.2.1 out.2.2.2.1 out.2.2.2.2.1 out.2.2.2.2.2.1 out.2.2.2.2.2.2.1 out.2.2.2.2.2.2.2.1 0 0) (ih_X20_is : ∀ (G : gG) (K : gK) (I : gI) (J : gJ) (X : gX) (A : gI) (B : gJ) (Q : gX) (n : Nat) (o : Nat) (a1 : Nat) (p2 : Int32) (out : Int32 × gK × gI × gJ × gX × gI × gJ × gX × Nat) (hf : q_X20_is G.2.2 (aK G) o a1 p2 K I J X A B Q n = some out) , GMetX l yX20_is cX20_is 3 (some .boolean) (d + 1) (d * 23 + 22) G [.ref o, .ref a1, .int p2] K I J X A B Q (.inr (some (.int out.1))) out.2.1 out.2.2.1 out.2.2.2.1 out.2.2.2.2.1 out.2.2.2.2.2.1 out.2.2.2.2.2.2.1 out.2.2.2.2.2.2.2.1 0 0) (ih_X21_is : ∀ (G : gG) (K : gK) (I : gI) (J : gJ) (X : gX) (A : gI) (B : gJ) (Q : gX) (n : Nat) (o : Nat) (a1 : Nat) (p2 : Int32) (out : Int32 × gK × gI × gJ × gX × gI × gJ × gX × Nat) (hf : q_X21_is G.2.2 (aK G) o a1 p2 K I J X A B Q n = some out) , GMetX l yX21_is cX21_is 3 (some .boolean) (d + 1) (d * 23 + 22) G [.ref o, .ref a1, .int p2] K I J X A B Q (.inr (some (.int out.1))) out.2.1 out.2.2.1 out.2.2.2.1 out.2.2.2.2.1 out.2.2.2.2.2.1 out.2.2.2.2.2.2.1 out.2.2.2.2.2.2.2.1 0 0) (ih_X22_is : ∀ (G : gG) (K : gK) (I : gI) (J : gJ) (X : gX) (A : gI) (B : gJ) (Q : gX) (n : Nat) (o : Nat) (a1 : Nat) (p2 : Int32) (out : Int32 × gK × gI × gJ × gX × gI × gJ × gX × Nat) (hf : q_X22_is G.2.2 (aK G) o a1 p2 K I J X A B Q n = some out) , GMetX l yX22_is cX22_is 3 (some .boolean) (d + 1) (d * 23 + 22) G [.ref o, .ref a1, .int p2] K I J X A B Q (.inr (some (.int out.1))) out.2.1 out.2.2.1 out.2.2.2.1 out.2.2.2.2.1 out.2.2.2.2.2.1 out.2.2.2.2.2.2.1 out.2.2.2.2.2.2.2.1 0 0) : ∀ (G : gG) (K : gK) (I : gI) (J : gJ) (X : gX) (A : gI) (B : gJ) (Q : gX) (n : Nat) (o : Nat) (a1 : Nat) (p2 : Int32) (out : Int32 × gK × gI × gJ × gX × gI × gJ × gX × Nat) (hf : wb21_is q_X18_is q_X19_is q_X20_is q_X21_is q_X22_is G.2.2 (aK G) o a1 p2 K I J X A B Q n = some out), GMetX l yX21_is cX21_is 3 (some .boolean) ((d + 1) + 1) ((d + 1) * 23 + 22) G [.ref o, .ref a1, .int p2] K I J X A B Q (.inr (some (.int out.1))) out.2.1 out.2.2.1 out.2.2.2.1 out.2.2.2.2.1 out.2.2.2.2.2.1 out.2.2.2.2.2.2.1 out.2.2.2.2.2.2.2.1 0 0 := by
  intro G K I J X A B Q n o a1 p2 out hf
  refine GMetX.of (y := yX21_is) rfl (Nat.le_of_ble_eq_true rfl) (la := [(0, .ref o), (1, .ref a1), (2, .int p2)]) rfl ?_
  intro p e s m below meth c ls hx hb hr hml hlocks hts hown hname ht hG hR hW hl
  have hown : s.vm.findClass RX21 = some m.cls := hown
  have hS : va_S (gA G) s.heap s.heap [] := va_S.rf
  have hend : ∀ (pc : Nat) (H : Heap) (locs : List Loc) (ls : Array Slot), decode cX21_is pc = .ok (.ireturn, 1) → narrow .boolean (.int out.1) = .int out.1 → RS G out.2.1 out.2.2.1 out.2.2.2.1 out.2.2.2.2.1 out.2.2.2.2.2.1 out.2.2.2.2.2.2.1 out.2.2.2.2.2.2.2.1 H → va_S (gA G) s.heap H locs → W p l e ({ frames := (d + 1) + 1, cells := 0, slots := 0, locals := (d + 1) * 23 + 22 } : Room) s m ([.ref o, .ref a1, .int p2] : List Value).toArray below meth c H locs 0 0 (vx_MQ below (xQ G (.inr (some (.int out.1))) out.2.1 out.2.2.1 out.2.2.2.1 out.2.2.2.2.1 out.2.2.2.2.2.1 out.2.2.2.2.2.2.1 out.2.2.2.2.2.2.2.1) (xX G (.inr (some (.int out.1))) out.2.1 out.2.2.1 out.2.2.2.1 out.2.2.2.2.1 out.2.2.2.2.2.1 out.2.2.2.2.2.2.1 out.2.2.2.2.2.2.2.1) ([.ref o, .ref a1, .int p2] : List Value).toArray s 0 0 (gA G)) (F0 m pc ls [.int out.1]) := fun pc H locs ls hd hz hR hS => x_nret hx hb hr hz hlocks hG hR hS rfl hd
  generalize vx_MQ below (xQ G (.inr (some (.int out.1))) out.2.1 out.2.2.1 out.2.2.2.1 out.2.2.2.2.1 out.2.2.2.2.2.1 out.2.2.2.2.2.2.1 out.2.2.2.2.2.2.2.1) (xX G (.inr (some (.int out.1))) out.2.1 out.2.2.1 out.2.2.2.1 out.2.2.2.2.1 out.2.2.2.2.2.1 out.2.2.2.2.2.2.1 out.2.2.2.2.2.2.2.1) ([.ref o, .ref a1, .int p2] : List Value).toArray s 0 0 (gA G) = Z at hend ⊢
  generalize ([.ref o, .ref a1, .int p2] : List Value).toArray = args at hts hend ⊢
  unfold wb21_is at hf
  refine lv_aload_n hx hb dX21_is_0 rfl (lv_at hl 0 rfl) ?_
  obtain ⟨k1, hf⟩ := gdp_some hf
  obtain ⟨x2, ex2, hf⟩ := lt_some hf
  refine g_getx hx hb hts hown hG hR gFx_X21_7_17 k1 dX21_is_1 ?_
  rw [← ex2]
  refine lv_aload_n hx hb dX21_is_4 rfl (lv_at hl 1 rfl) ?_
  refine lv_iload_n hx hb dX21_is_5 rfl (lv_at hl 2 rfl) ?_
  obtain ⟨a3, ha3, hf⟩ := bind_s hf
  try rw [ha3]
  by_cases k4 : K a3 = some (.inl 14)
  · have hf := ite_t k4 hf
    obtain ⟨r5, hr5, hf⟩ := bind_s hf
    refine x0_gor (vx_runU (As := [.ref a1, .int p2]) (rest := []) (b := a3) ⟨hx, hb, hml, hown, hts⟩ (ih_X18_is G K I J X A B Q n a3 a1 p2 r5 hr5) (va_cwA (x := ⟨"PailRow$Cond", "is", "(LPailRow;I)Z"⟩) (owner := "PailRow$Cond") 2 hts gu_X21_16_14 rfl rfl rfl (hG.2 _ q1522 rfl) ⟨by decide +kernel, by decide +kernel, by decide +kernel⟩ ⟨by dsimp only; omega, by dsimp only; omega⟩) (x_preV hG hR hW hS k4 rfl) rfl rfl hl.1 rfl (lv_room (Nat.le_of_ble_eq_true rfl)) dX21_is_6 ⟨Nat.zero_le _, Nat.zero_le _⟩) hS (fun H locs hR hS => ?_)
    have hj28 : ∀ (j28_K : gK) (j28_I : gI) (j28_J : gJ) (j28_X : gX) (j28_A : gI) (j28_B : gJ) (j28_Q : gX) (j28_n : Nat) (j28_u : Nat) (j28_v : Nat), w21_is_j28 j28_K j28_I j28_J j28_X j28_A j28_B j28_Q j28_n j28_u j28_v = some out → ∀ (H : Heap) (locs : List Loc) (ls : Array Slot), RS G j28_K j28_I j28_J j28_X j28_A j28_B j28_Q H → va_S (gA G) s.heap H locs → lv_has ls 3 [(0, .ref o)] → W p l e ({ frames := (d + 1) + 1, cells := 0, slots := 0, locals := (d + 1) * 23 + 22 } : Room) s m args below meth c H locs j28_u j28_v Z (F0 m 28 ls []) := by
      intro j28_K j28_I j28_J j28_X j28_A j28_B j28_Q j28_n j28_u j28_v hf H locs ls hR hS hl
      unfold w21_is_j28 at hf
      refine lv_iconst (v := 0) hx hb dX21_is_28 li_0 ?_
      obtain ⟨c6, hf⟩ := gdp_some hf
      refine W.widen c6.1 c6.2 ?_
      obtain rfl := some_i hf
      exact hend _ _ _ _ dX21_is_29 nz_0 hR hS
    refine lv_if_eq (tgt := 28) hx hb dX21_is_9 (by decide) (fun c7 => ?_) (fun c7 => ?_)
    · have hf := ite_t c7 hf
      exact hj28 r5.2.1 r5.2.2.1 r5.2.2.2.1 r5.2.2.2.2.1 r5.2.2.2.2.2.1 r5.2.2.2.2.2.2.1 r5.2.2.2.2.2.2.2.1 r5.2.2.2.2.2.2.2.2 0 0 hf _ _ _ hR hS (lv_sub hl [0] rfl)
    · have hf := ite_f c7 hf
      refine lv_aload_n hx hb dX21_is_12 rfl (lv_at hl 0 rfl) ?_
      obtain ⟨k8, hf⟩ := gdp_some hf
      obtain ⟨x9, ex9, hf⟩ := lt_some hf
      refine g_getx hx hb hts hown hG hR gFx_X21_13_17 k8 dX21_is_13 ?_
      rw [← ex9]
      refine lv_aload_n hx hb dX21_is_16 rfl (lv_at hl 1 rfl) ?_
      refine lv_iload_n hx hb dX21_is_17 rfl (lv_at hl 2 rfl) ?_
      obtain ⟨a10, ha10, hf⟩ := bind_s hf
      try rw [ha10]
      by_cases k11 : r5.2.1 a10 = some (.inl 14)
      · have hf := ite_t k11 hf
        obtain ⟨r12, hr12, hf⟩ := bind_s hf
        refine x0_gor (vx_runU (As := [.ref a1, .int p2]) (rest := []) (b := a10) ⟨hx, hb, hml, hown, hts⟩ (ih_X18_is G r5.2.1 r5.2.2.1 r5.2.2.2.1 r5.2.2.2.2.1 r5.2.2.2.2.2.1 r5.2.2.2.2.2.2.1 r5.2.2.2.2.2.2.2.1 r5.2.2.2.2.2.2.2.2 a10 a1 p2 r12 hr12) (va_cwA (x := ⟨"PailRow$Cond", "is", "(LPailRow;I)Z"⟩) (owner := "PailRow$Cond") 2 hts gu_X21_16_14 rfl rfl rfl (hG.2 _ q1522 rfl) ⟨by decide +kernel, by decide +kernel, by decide +kernel⟩ ⟨by dsimp only; omega, by dsimp only; omega⟩) (x_preV hG hR hW hS k11 rfl) rfl rfl hl.1 rfl (lv_room (Nat.le_of_ble_eq_true rfl)) dX21_is_18 ⟨Nat.zero_le _, Nat.zero_le _⟩) hS (fun H locs hR hS => ?_)
        refine lv_if_eq (tgt := 28) hx hb dX21_is_21 (by decide) (fun c13 => ?_) (fun c13 => ?_)
        · have hf := ite_t c13 hf
          exact hj28 r12.2.1 r12.2.2.1 r12.2.2.2.1 r12.2.2.2.2.1 r12.2.2.2.2.2.1 r12.2.2.2.2.2.2.1 r12.2.2.2.2.2.2.2.1 r12.2.2.2.2.2.2.2.2 0 0 hf _ _ _ hR hS (lv_sub hl [0] rfl)
        · have hf := ite_f c13 hf
          refine lv_iconst (v := 1) hx hb dX21_is_24 li_1 ?_
          refine lv_goto (tgt := 29) hx hb dX21_is_25 (by decide) ?_
          obtain rfl := some_i hf
          exact hend _ _ _ _ dX21_is_29 nz_1 hR hS
      have hf := ite_f k11 hf
      by_cases k14 : r5.2.1 a10 = some (.inl 15)
      · have hf := ite_t k14 hf
        obtain ⟨r15, hr15, hf⟩ := bind_s hf
        refine x0_gor (vx_runU (As := [.ref a1, .int p2]) (rest := []) (b := a10) ⟨hx, hb, hml, hown, hts⟩ (ih_X19_is G r5.2.1 r5.2.2.1 r5.2.2.2.1 r5.2.2.2.2.1 r5.2.2.2.2.2.1 r5.2.2.2.2.2.2.1 r5.2.2.2.2.2.2.2.1 r5.2.2.2.2.2.2.2.2 a10 a1 p2 r15 hr15) (va_cwA (x := ⟨"PailRow$Cond", "is", "(LPailRow;I)Z"⟩) (owner := "PailRow$Cond") 2 hts gu_X21_16_15 rfl rfl rfl (hG.2 _ q1522 rfl) ⟨by decide +kernel, by decide +kernel, by decide +kernel⟩ ⟨by dsimp only; omega, by dsimp only; omega⟩) (x_preV hG hR hW hS k14 rfl) rfl rfl hl.1 rfl (lv_room (Nat.le_of_ble_eq_true rfl)) dX21_is_18 ⟨Nat.zero_le _, Nat.zero_le _⟩) hS (fun H locs hR hS => ?_)
        refine lv_if_eq (tgt := 28) hx hb dX21_is_21 (by decide) (fun c16 => ?_) (fun c16 => ?_)
        · have hf := ite_t c16 hf
          exact hj28 r15.2.1 r15.2.2.1 r15.2.2.2.1 r15.2.2.2.2.1 r15.2.2.2.2.2.1 r15.2.2.2.2.2.2.1 r15.2.2.2.2.2.2.2.1 r15.2.2.2.2.2.2.2.2 0 0 hf _ _ _ hR hS (lv_sub hl [0] rfl)
        · have hf := ite_f c16 hf
          refine lv_iconst (v := 1) hx hb dX21_is_24 li_1 ?_
          refine lv_goto (tgt := 29) hx hb dX21_is_25 (by decide) ?_
          obtain rfl := some_i hf
          exact hend _ _ _ _ dX21_is_29 nz_1 hR hS
      have hf := ite_f k14 hf
      by_cases k17 : r5.2.1 a10 = some (.inl 16)
      · have hf := ite_t k17 hf
        obtain ⟨r18, hr18, hf⟩ := bind_s hf
        refine x0_gor (vx_runU (As := [.ref a1, .int p2]) (rest := []) (b := a10) ⟨hx, hb, hml, hown, hts⟩ (ih_X20_is G r5.2.1 r5.2.2.1 r5.2.2.2.1 r5.2.2.2.2.1 r5.2.2.2.2.2.1 r5.2.2.2.2.2.2.1 r5.2.2.2.2.2.2.2.1 r5.2.2.2.2.2.2.2.2 a10 a1 p2 r18 hr18) (va_cwA (x := ⟨"PailRow$Cond", "is", "(LPailRow;I)Z"⟩) (owner := "PailRow$Cond") 2 hts gu_X21_16_16 rfl rfl rfl (hG.2 _ q1522 rfl) ⟨by decide +kernel, by decide +kernel, by decide +kernel⟩ ⟨by dsimp only; omega, by dsimp only; omega⟩) (x_preV hG hR hW hS k17 rfl) rfl rfl hl.1 rfl (lv_room (Nat.le_of_ble_eq_true rfl)) dX21_is_18 ⟨Nat.zero_le _, Nat.zero_le _⟩) hS (fun H locs hR hS => ?_)
        refine lv_if_eq (tgt := 28) hx hb dX21_is_21 (by decide) (fun c19 => ?_) (fun c19 => ?_)
        · have hf := ite_t c19 hf
          exact hj28 r18.2.1 r18.2.2.1 r18.2.2.2.1 r18.2.2.2.2.1 r18.2.2.2.2.2.1 r18.2.2.2.2.2.2.1 r18.2.2.2.2.2.2.2.1 r18.2.2.2.2.2.2.2.2 0 0 hf _ _ _ hR hS (lv_sub hl [0] rfl)
        · have hf := ite_f c19 hf
          refine lv_iconst (v := 1) hx hb dX21_is_24 li_1 ?_
          refine lv_goto (tgt := 29) hx hb dX21_is_25 (by decide) ?_
          obtain rfl := some_i hf
          exact hend _ _ _ _ dX21_is_29 nz_1 hR hS
      have hf := ite_f k17 hf
      by_cases k20 : r5.2.1 a10 = some (.inl 17)
      · have hf := ite_t k20 hf
        obtain ⟨r21, hr21, hf⟩ := bind_s hf
        refine x0_gor (vx_runU (As := [.ref a1, .int p2]) (rest := []) (b := a10) ⟨hx, hb, hml, hown, hts⟩ (ih_X21_is G r5.2.1 r5.2.2.1 r5.2.2.2.1 r5.2.2.2.2.1 r5.2.2.2.2.2.1 r5.2.2.2.2.2.2.1 r5.2.2.2.2.2.2.2.1 r5.2.2.2.2.2.2.2.2 a10 a1 p2 r21 hr21) (va_cwA (x := ⟨"PailRow$Cond", "is", "(LPailRow;I)Z"⟩) (owner := "PailRow$Cond") 2 hts gu_X21_16_17 rfl rfl rfl (hG.2 _ q1522 rfl) ⟨by decide +kernel, by decide +kernel, by decide +kernel⟩ ⟨by dsimp only; omega, by dsimp only; omega⟩) (x_preV hG hR hW hS k20 rfl) rfl rfl hl.1 rfl (lv_room (Nat.le_of_ble_eq_true rfl)) dX21_is_18 ⟨Nat.zero_le _, Nat.zero_le _⟩) hS (fun H locs hR hS => ?_)
        refine lv_if_eq (tgt := 28) hx hb dX21_is_21 (by decide) (fun c22 => ?_) (fun c22 => ?_)
        · have hf := ite_t c22 hf
          exact hj28 r21.2.1 r21.2.2.1 r21.2.2.2.1 r21.2.2.2.2.1 r21.2.2.2.2.2.1 r21.2.2.2.2.2.2.1 r21.2.2.2.2.2.2.2.1 r21.2.2.2.2.2.2.2.2 0 0 hf _ _ _ hR hS (lv_sub hl [0] rfl)
        · have hf := ite_f c22 hf
          refine lv_iconst (v := 1) hx hb dX21_is_24 li_1 ?_
          refine lv_goto (tgt := 29) hx hb dX21_is_25 (by decide) ?_
          obtain rfl := some_i hf
          exact hend _ _ _ _ dX21_is_29 nz_1 hR hS
      have hf := ite_f k20 hf
      obtain ⟨k23, hf⟩ := gdp_some hf
      obtain ⟨r24, hr24, hf⟩ := bind_s hf
      refine x0_gor (vx_runU (As := [.ref a1, .int p2]) (rest := []) (b := a10) ⟨hx, hb, hml, hown, hts⟩ (ih_X22_is G r5.2.1 r5.2.2.1 r5.2.2.2.1 r5.2.2.2.2.1 r5.2.2.2.2.2.1 r5.2.2.2.2.2.2.1 r5.2.2.2.2.2.2.2.1 r5.2.2.2.2.2.2.2.2 a10 a1 p2 r24 hr24) (va_cwA (x := ⟨"PailRow$Cond", "is", "(LPailRow;I)Z"⟩) (owner := "PailRow$Cond") 2 hts gu_X21_16_18 rfl rfl rfl (hG.2 _ q1522 rfl) ⟨by decide +kernel, by decide +kernel, by decide +kernel⟩ ⟨by dsimp only; omega, by dsimp only; omega⟩) (x_preV hG hR hW hS k23 rfl) rfl rfl hl.1 rfl (lv_room (Nat.le_of_ble_eq_true rfl)) dX21_is_18 ⟨Nat.zero_le _, Nat.zero_le _⟩) hS (fun H locs hR hS => ?_)
      refine lv_if_eq (tgt := 28) hx hb dX21_is_21 (by decide) (fun c25 => ?_) (fun c25 => ?_)
      · have hf := ite_t c25 hf
        exact hj28 r24.2.1 r24.2.2.1 r24.2.2.2.1 r24.2.2.2.2.1 r24.2.2.2.2.2.1 r24.2.2.2.2.2.2.1 r24.2.2.2.2.2.2.2.1 r24.2.2.2.2.2.2.2.2 0 0 hf _ _ _ hR hS (lv_sub hl [0] rfl)
      · have hf := ite_f c25 hf
        refine lv_iconst (v := 1) hx hb dX21_is_24 li_1 ?_
        refine lv_goto (tgt := 29) hx hb dX21_is_25 (by decide) ?_
        obtain rfl := some_i hf
        exact hend _ _ _ _ dX21_is_29 nz_1 hR hS
  have hf := ite_f k4 hf
  by_cases k26 : K a3 = some (.inl 15)
  · have hf := ite_t k26 hf
    obtain ⟨r27, hr27, hf⟩ := bind_s hf
    refine x0_gor (vx_runU (As := [.ref a1, .int p2]) (rest := []) (b := a3) ⟨hx, hb, hml, hown, hts⟩ (ih_X19_is G K I J X A B Q n a3 a1 p2 r27 hr27) (va_cwA (x := ⟨"PailRow$Cond", "is", "(LPailRow;I)Z"⟩) (owner := "PailRow$Cond") 2 hts gu_X21_16_15 rfl rfl rfl (hG.2 _ q1522 rfl) ⟨by decide +kernel, by decide +kernel, by decide +kernel⟩ ⟨by dsimp only; omega, by dsimp only; omega⟩) (x_preV hG hR hW hS k26 rfl) rfl rfl hl.1 rfl (lv_room (Nat.le_of_ble_eq_true rfl)) dX21_is_6 ⟨Nat.zero_le _, Nat.zero_le _⟩) hS (fun H locs hR hS => ?_)
    have hj28 : ∀ (j28_K : gK) (j28_I : gI) (j28_J : gJ) (j28_X : gX) (j28_A : gI) (j28_B : gJ) (j28_Q : gX) (j28_n : Nat) (j28_u : Nat) (j28_v : Nat), w21_is_j28 j28_K j28_I j28_J j28_X j28_A j28_B j28_Q j28_n j28_u j28_v = some out → ∀ (H : Heap) (locs : List Loc) (ls : Array Slot), RS G j28_K j28_I j28_J j28_X j28_A j28_B j28_Q H → va_S (gA G) s.heap H locs → lv_has ls 3 [(0, .ref o)] → W p l e ({ frames := (d + 1) + 1, cells := 0, slots := 0, locals := (d + 1) * 23 + 22 } : Room) s m args below meth c H locs j28_u j28_v Z (F0 m 28 ls []) := by
      intro j28_K j28_I j28_J j28_X j28_A j28_B j28_Q j28_n j28_u j28_v hf H locs ls hR hS hl
      unfold w21_is_j28 at hf
      refine lv_iconst (v := 0) hx hb dX21_is_28 li_0 ?_
      obtain ⟨c28, hf⟩ := gdp_some hf
      refine W.widen c28.1 c28.2 ?_
      obtain rfl := some_i hf
      exact hend _ _ _ _ dX21_is_29 nz_0 hR hS
    refine lv_if_eq (tgt := 28) hx hb dX21_is_9 (by decide) (fun c29 => ?_) (fun c29 => ?_)
    · have hf := ite_t c29 hf
      exact hj28 r27.2.1 r27.2.2.1 r27.2.2.2.1 r27.2.2.2.2.1 r27.2.2.2.2.2.1 r27.2.2.2.2.2.2.1 r27.2.2.2.2.2.2.2.1 r27.2.2.2.2.2.2.2.2 0 0 hf _ _ _ hR hS (lv_sub hl [0] rfl)
    · have hf := ite_f c29 hf
      refine lv_aload_n hx hb dX21_is_12 rfl (lv_at hl 0 rfl) ?_
      obtain ⟨k30, hf⟩ := gdp_some hf
      obtain ⟨x31, ex31, hf⟩ := lt_some hf
      refine g_getx hx hb hts hown hG hR gFx_X21_13_17 k30 dX21_is_13 ?_
      rw [← ex31]
      refine lv_aload_n hx hb dX21_is_16 rfl (lv_at hl 1 rfl) ?_
      refine lv_iload_n hx hb dX21_is_17 rfl (lv_at hl 2 rfl) ?_
      obtain ⟨a32, ha32, hf⟩ := bind_s hf
      try rw [ha32]
      by_cases k33 : r27.2.1 a32 = some (.inl 14)
      · have hf := ite_t k33 hf
        obtain ⟨r34, hr34, hf⟩ := bind_s hf
        refine x0_gor (vx_runU (As := [.ref a1, .int p2]) (rest := []) (b := a32) ⟨hx, hb, hml, hown, hts⟩ (ih_X18_is G r27.2.1 r27.2.2.1 r27.2.2.2.1 r27.2.2.2.2.1 r27.2.2.2.2.2.1 r27.2.2.2.2.2.2.1 r27.2.2.2.2.2.2.2.1 r27.2.2.2.2.2.2.2.2 a32 a1 p2 r34 hr34) (va_cwA (x := ⟨"PailRow$Cond", "is", "(LPailRow;I)Z"⟩) (owner := "PailRow$Cond") 2 hts gu_X21_16_14 rfl rfl rfl (hG.2 _ q1522 rfl) ⟨by decide +kernel, by decide +kernel, by decide +kernel⟩ ⟨by dsimp only; omega, by dsimp only; omega⟩) (x_preV hG hR hW hS k33 rfl) rfl rfl hl.1 rfl (lv_room (Nat.le_of_ble_eq_true rfl)) dX21_is_18 ⟨Nat.zero_le _, Nat.zero_le _⟩) hS (fun H locs hR hS => ?_)
        refine lv_if_eq (tgt := 28) hx hb dX21_is_21 (by decide) (fun c35 => ?_) (fun c35 => ?_)
        · have hf := ite_t c35 hf
          exact hj28 r34.2.1 r34.2.2.1 r34.2.2.2.1 r34.2.2.2.2.1 r34.2.2.2.2.2.1 r34.2.2.2.2.2.2.1 r34.2.2.2.2.2.2.2.1 r34.2.2.2.2.2.2.2.2 0 0 hf _ _ _ hR hS (lv_sub hl [0] rfl)
        · have hf := ite_f c35 hf
          refine lv_iconst (v := 1) hx hb dX21_is_24 li_1 ?_
          refine lv_goto (tgt := 29) hx hb dX21_is_25 (by decide) ?_
          obtain rfl := some_i hf
          exact hend _ _ _ _ dX21_is_29 nz_1 hR hS
      have hf := ite_f k33 hf
      by_cases k36 : r27.2.1 a32 = some (.inl 15)
      · have hf := ite_t k36 hf
        obtain ⟨r37, hr37, hf⟩ := bind_s hf
        refine x0_gor (vx_runU (As := [.ref a1, .int p2]) (rest := []) (b := a32) ⟨hx, hb, hml, hown, hts⟩ (ih_X19_is G r27.2.1 r27.2.2.1 r27.2.2.2.1 r27.2.2.2.2.1 r27.2.2.2.2.2.1 r27.2.2.2.2.2.2.1 r27.2.2.2.2.2.2.2.1 r27.2.2.2.2.2.2.2.2 a32 a1 p2 r37 hr37) (va_cwA (x := ⟨"PailRow$Cond", "is", "(LPailRow;I)Z"⟩) (owner := "PailRow$Cond") 2 hts gu_X21_16_15 rfl rfl rfl (hG.2 _ q1522 rfl) ⟨by decide +kernel, by decide +kernel, by decide +kernel⟩ ⟨by dsimp only; omega, by dsimp only; omega⟩) (x_preV hG hR hW hS k36 rfl) rfl rfl hl.1 rfl (lv_room (Nat.le_of_ble_eq_true rfl)) dX21_is_18 ⟨Nat.zero_le _, Nat.zero_le _⟩) hS (fun H locs hR hS => ?_)
        refine lv_if_eq (tgt := 28) hx hb dX21_is_21 (by decide) (fun c38 => ?_) (fun c38 => ?_)
        · have hf := ite_t c38 hf
          exact hj28 r37.2.1 r37.2.2.1 r37.2.2.2.1 r37.2.2.2.2.1 r37.2.2.2.2.2.1 r37.2.2.2.2.2.2.1 r37.2.2.2.2.2.2.2.1 r37.2.2.2.2.2.2.2.2 0 0 hf _ _ _ hR hS (lv_sub hl [0] rfl)
        · have hf := ite_f c38 hf
          refine lv_iconst (v := 1) hx hb dX21_is_24 li_1 ?_
          refine lv_goto (tgt := 29) hx hb dX21_is_25 (by decide) ?_
          obtain rfl := some_i hf
          exact hend _ _ _ _ dX21_is_29 nz_1 hR hS
      have hf := ite_f k36 hf
      by_cases k39 : r27.2.1 a32 = some (.inl 16)
      · have hf := ite_t k39 hf
        obtain ⟨r40, hr40, hf⟩ := bind_s hf
        refine x0_gor (vx_runU (As := [.ref a1, .int p2]) (rest := []) (b := a32) ⟨hx, hb, hml, hown, hts⟩ (ih_X20_is G r27.2.1 r27.2.2.1 r27.2.2.2.1 r27.2.2.2.2.1 r27.2.2.2.2.2.1 r27.2.2.2.2.2.2.1 r27.2.2.2.2.2.2.2.1 r27.2.2.2.2.2.2.2.2 a32 a1 p2 r40 hr40) (va_cwA (x := ⟨"PailRow$Cond", "is", "(LPailRow;I)Z"⟩) (owner := "PailRow$Cond") 2 hts gu_X21_16_16 rfl rfl rfl (hG.2 _ q1522 rfl) ⟨by decide +kernel, by decide +kernel, by decide +kernel⟩ ⟨by dsimp only; omega, by dsimp only; omega⟩) (x_preV hG hR hW hS k39 rfl) rfl rfl hl.1 rfl (lv_room (Nat.le_of_ble_eq_true rfl)) dX21_is_18 ⟨Nat.zero_le _, Nat.zero_le _⟩) hS (fun H locs hR hS => ?_)
        refine lv_if_eq (tgt := 28) hx hb dX21_is_21 (by decide) (fun c41 => ?_) (fun c41 => ?_)
        · have hf := ite_t c41 hf
          exact hj28 r40.2.1 r40.2.2.1 r40.2.2.2.1 r40.2.2.2.2.1 r40.2.2.2.2.2.1 r40.2.2.2.2.2.2.1 r40.2.2.2.2.2.2.2.1 r40.2.2.2.2.2.2.2.2 0 0 hf _ _ _ hR hS (lv_sub hl [0] rfl)
        · have hf := ite_f c41 hf
          refine lv_iconst (v := 1) hx hb dX21_is_24 li_1 ?_
          refine lv_goto (tgt := 29) hx hb dX21_is_25 (by decide) ?_
          obtain rfl := some_i hf
          exact hend _ _ _ _ dX21_is_29 nz_1 hR hS
      have hf := ite_f k39 hf
      by_cases k42 : r27.2.1 a32 = some (.inl 17)
      · have hf := ite_t k42 hf
        obtain ⟨r43, hr43, hf⟩ := bind_s hf
        refine x0_gor (vx_runU (As := [.ref a1, .int p2]) (rest := []) (b := a32) ⟨hx, hb, hml, hown, hts⟩ (ih_X21_is G r27.2.1 r27.2.2.1 r27.2.2.2.1 r27.2.2.2.2.1 r27.2.2.2.2.2.1 r27.2.2.2.2.2.2.1 r27.2.2.2.2.2.2.2.1 r27.2.2.2.2.2.2.2.2 a32 a1 p2 r43 hr43) (va_cwA (x := ⟨"PailRow$Cond", "is", "(LPailRow;I)Z"⟩) (owner := "PailRow$Cond") 2 hts gu_X21_16_17 rfl rfl rfl (hG.2 _ q1522 rfl) ⟨by decide +kernel, by decide +kernel, by decide +kernel⟩ ⟨by dsimp only; omega, by dsimp only; omega⟩) (x_preV hG hR hW hS k42 rfl) rfl rfl hl.1 rfl (lv_room (Nat.le_of_ble_eq_true rfl)) dX21_is_18 ⟨Nat.zero_le _, Nat.zero_le _⟩) hS (fun H locs hR hS => ?_)
        refine lv_if_eq (tgt := 28) hx hb dX21_is_21 (by decide) (fun c44 => ?_) (fun c44 => ?_)
        · have hf := ite_t c44 hf
          exact hj28 r43.2.1 r43.2.2.1 r43.2.2.2.1 r43.2.2.2.2.1 r43.2.2.2.2.2.1 r43.2.2.2.2.2.2.1 r43.2.2.2.2.2.2.2.1 r43.2.2.2.2.2.2.2.2 0 0 hf _ _ _ hR hS (lv_sub hl [0] rfl)
        · have hf := ite_f c44 hf
          refine lv_iconst (v := 1) hx hb dX21_is_24 li_1 ?_
          refine lv_goto (tgt := 29) hx hb dX21_is_25 (by decide) ?_
          obtain rfl := some_i hf
          exact hend _ _ _ _ dX21_is_29 nz_1 hR hS
      have hf := ite_f k42 hf
      obtain ⟨k45, hf⟩ := gdp_some hf
      obtain ⟨r46, hr46, hf⟩ := bind_s hf
      refine x0_gor (vx_runU (As := [.ref a1, .int p2]) (rest := []) (b := a32) ⟨hx, hb, hml, hown, hts⟩ (ih_X22_is G r27.2.1 r27.2.2.1 r27.2.2.2.1 r27.2.2.2.2.1 r27.2.2.2.2.2.1 r27.2.2.2.2.2.2.1 r27.2.2.2.2.2.2.2.1 r27.2.2.2.2.2.2.2.2 a32 a1 p2 r46 hr46) (va_cwA (x := ⟨"PailRow$Cond", "is", "(LPailRow;I)Z"⟩) (owner := "PailRow$Cond") 2 hts gu_X21_16_18 rfl rfl rfl (hG.2 _ q1522 rfl) ⟨by decide +kernel, by decide +kernel, by decide +kernel⟩ ⟨by dsimp only; omega, by dsimp only; omega⟩) (x_preV hG hR hW hS k45 rfl) rfl rfl hl.1 rfl (lv_room (Nat.le_of_ble_eq_true rfl)) dX21_is_18 ⟨Nat.zero_le _, Nat.zero_le _⟩) hS (fun H locs hR hS => ?_)
      refine lv_if_eq (tgt := 28) hx hb dX21_is_21 (by decide) (fun c47 => ?_) (fun c47 => ?_)
      · have hf := ite_t c47 hf
        exact hj28 r46.2.1 r46.2.2.1 r46.2.2.2.1 r46.2.2.2.2.1 r46.2.2.2.2.2.1 r46.2.2.2.2.2.2.1 r46.2.2.2.2.2.2.2.1 r46.2.2.2.2.2.2.2.2 0 0 hf _ _ _ hR hS (lv_sub hl [0] rfl)
      · have hf := ite_f c47 hf
        refine lv_iconst (v := 1) hx hb dX21_is_24 li_1 ?_
        refine lv_goto (tgt := 29) hx hb dX21_is_25 (by decide) ?_
        obtain rfl := some_i hf
        exact hend _ _ _ _ dX21_is_29 nz_1 hR hS
  have hf := ite_f k26 hf
  by_cases k48 : K a3 = some (.inl 16)
  · have hf := ite_t k48 hf
    obtain ⟨r49, hr49, hf⟩ := bind_s hf
    refine x0_gor (vx_runU (As := [.ref a1, .int p2]) (rest := []) (b := a3) ⟨hx, hb, hml, hown, hts⟩ (ih_X20_is G K I J X A B Q n a3 a1 p2 r49 hr49) (va_cwA (x := ⟨"PailRow$Cond", "is", "(LPailRow;I)Z"⟩) (owner := "PailRow$Cond") 2 hts gu_X21_16_16 rfl rfl rfl (hG.2 _ q1522 rfl) ⟨by decide +kernel, by decide +kernel, by decide +kernel⟩ ⟨by dsimp only; omega, by dsimp only; omega⟩) (x_preV hG hR hW hS k48 rfl) rfl rfl hl.1 rfl (lv_room (Nat.le_of_ble_eq_true rfl)) dX21_is_6 ⟨Nat.zero_le _, Nat.zero_le _⟩) hS (fun H locs hR hS => ?_)
    have hj28 : ∀ (j28_K : gK) (j28_I : gI) (j28_J : gJ) (j28_X : gX) (j28_A : gI) (j28_B : gJ) (j28_Q : gX) (j28_n : Nat) (j28_u : Nat) (j28_v : Nat), w21_is_j28 j28_K j28_I j28_J j28_X j28_A j28_B j28_Q j28_n j28_u j28_v = some out → ∀ (H : Heap) (locs : List Loc) (ls : Array Slot), RS G j28_K j28_I j28_J j28_X j28_A j28_B j28_Q H → va_S (gA G) s.heap H locs → lv_has ls 3 [(0, .ref o)] → W p l e ({ frames := (d + 1) + 1, cells := 0, slots := 0, locals := (d + 1) * 23 + 22 } : Room) s m args below meth c H locs j28_u j28_v Z (F0 m 28 ls []) := by
      intro j28_K j28_I j28_J j28_X j28_A j28_B j28_Q j28_n j28_u j28_v hf H locs ls hR hS hl
      unfold w21_is_j28 at hf
      refine lv_iconst (v := 0) hx hb dX21_is_28 li_0 ?_
      obtain ⟨c50, hf⟩ := gdp_some hf
      refine W.widen c50.1 c50.2 ?_
      obtain rfl := some_i hf
      exact hend _ _ _ _ dX21_is_29 nz_0 hR hS
    refine lv_if_eq (tgt := 28) hx hb dX21_is_9 (by decide) (fun c51 => ?_) (fun c51 => ?_)
    · have hf := ite_t c51 hf
      exact hj28 r49.2.1 r49.2.2.1 r49.2.2.2.1 r49.2.2.2.2.1 r49.2.2.2.2.2.1 r49.2.2.2.2.2.2.1 r49.2.2.2.2.2.2.2.1 r49.2.2.2.2.2.2.2.2 0 0 hf _ _ _ hR hS (lv_sub hl [0] rfl)
    · have hf := ite_f c51 hf
      refine lv_aload_n hx hb dX21_is_12 rfl (lv_at hl 0 rfl) ?_
      obtain ⟨k52, hf⟩ := gdp_some hf
      obtain ⟨x53, ex53, hf⟩ := lt_some hf
      refine g_getx hx hb hts hown hG hR gFx_X21_13_17 k52 dX21_is_13 ?_
      rw [← ex53]
      refine lv_aload_n hx hb dX21_is_16 rfl (lv_at hl 1 rfl) ?_
      refine lv_iload_n hx hb dX21_is_17 rfl (lv_at hl 2 rfl) ?_
      obtain ⟨a54, ha54, hf⟩ := bind_s hf
      try rw [ha54]
      by_cases k55 : r49.2.1 a54 = some (.inl 14)
      · have hf := ite_t k55 hf
        obtain ⟨r56, hr56, hf⟩ := bind_s hf
        refine x0_gor (vx_runU (As := [.ref a1, .int p2]) (rest := []) (b := a54) ⟨hx, hb, hml, hown, hts⟩ (ih_X18_is G r49.2.1 r49.2.2.1 r49.2.2.2.1 r49.2.2.2.2.1 r49.2.2.2.2.2.1 r49.2.2.2.2.2.2.1 r49.2.2.2.2.2.2.2.1 r49.2.2.2.2.2.2.2.2 a54 a1 p2 r56 hr56) (va_cwA (x := ⟨"PailRow$Cond", "is", "(LPailRow;I)Z"⟩) (owner := "PailRow$Cond") 2 hts gu_X21_16_14 rfl rfl rfl (hG.2 _ q1522 rfl) ⟨by decide +kernel, by decide +kernel, by decide +kernel⟩ ⟨by dsimp only; omega, by dsimp only; omega⟩) (x_preV hG hR hW hS k55 rfl) rfl rfl hl.1 rfl (lv_room (Nat.le_of_ble_eq_true rfl)) dX21_is_18 ⟨Nat.zero_le _, Nat.zero_le _⟩) hS (fun H locs hR hS => ?_)
        refine lv_if_eq (tgt := 28) hx hb dX21_is_21 (by decide) (fun c57 => ?_) (fun c57 => ?_)
        · have hf := ite_t c57 hf
          exact hj28 r56.2.1 r56.2.2.1 r56.2.2.2.1 r56.2.2.2.2.1 r56.2.2.2.2.2.1 r56.2.2.2.2.2.2.1 r56.2.2.2.2.2.2.2.1 r56.2.2.2.2.2.2.2.2 0 0 hf _ _ _ hR hS (lv_sub hl [0] rfl)
        · have hf := ite_f c57 hf
          refine lv_iconst (v := 1) hx hb dX21_is_24 li_1 ?_
          refine lv_goto (tgt := 29) hx hb dX21_is_25 (by decide) ?_
          obtain rfl := some_i hf
          exact hend _ _ _ _ dX21_is_29 nz_1 hR hS
      have hf := ite_f k55 hf
      by_cases k58 : r49.2.1 a54 = some (.inl 15)
      · have hf := ite_t k58 hf
        obtain ⟨r59, hr59, hf⟩ := bind_s hf
        refine x0_gor (vx_runU (As := [.ref a1, .int p2]) (rest := []) (b := a54) ⟨hx, hb, hml, hown, hts⟩ (ih_X19_is G r49.2.1 r49.2.2.1 r49.2.2.2.1 r49.2.2.2.2.1 r49.2.2.2.2.2.1 r49.2.2.2.2.2.2.1 r49.2.2.2.2.2.2.2.1 r49.2.2.2.2.2.2.2.2 a54 a1 p2 r59 hr59) (va_cwA (x := ⟨"PailRow$Cond", "is", "(LPailRow;I)Z"⟩) (owner := "PailRow$Cond") 2 hts gu_X21_16_15 rfl rfl rfl (hG.2 _ q1522 rfl) ⟨by decide +kernel, by decide +kernel, by decide +kernel⟩ ⟨by dsimp only; omega, by dsimp only; omega⟩) (x_preV hG hR hW hS k58 rfl) rfl rfl hl.1 rfl (lv_room (Nat.le_of_ble_eq_true rfl)) dX21_is_18 ⟨Nat.zero_le _, Nat.zero_le _⟩) hS (fun H locs hR hS => ?_)
        refine lv_if_eq (tgt := 28) hx hb dX21_is_21 (by decide) (fun c60 => ?_) (fun c60 => ?_)
        · have hf := ite_t c60 hf
          exact hj28 r59.2.1 r59.2.2.1 r59.2.2.2.1 r59.2.2.2.2.1 r59.2.2.2.2.2.1 r59.2.2.2.2.2.2.1 r59.2.2.2.2.2.2.2.1 r59.2.2.2.2.2.2.2.2 0 0 hf _ _ _ hR hS (lv_sub hl [0] rfl)
        · have hf := ite_f c60 hf
          refine lv_iconst (v := 1) hx hb dX21_is_24 li_1 ?_
          refine lv_goto (tgt := 29) hx hb dX21_is_25 (by decide) ?_
          obtain rfl := some_i hf
          exact hend _ _ _ _ dX21_is_29 nz_1 hR hS
      have hf := ite_f k58 hf
      by_cases k61 : r49.2.1 a54 = some (.inl 16)
      · have hf := ite_t k61 hf
        obtain ⟨r62, hr62, hf⟩ := bind_s hf
        refine x0_gor (vx_runU (As := [.ref a1, .int p2]) (rest := []) (b := a54) ⟨hx, hb, hml, hown, hts⟩ (ih_X20_is G r49.2.1 r49.2.2.1 r49.2.2.2.1 r49.2.2.2.2.1 r49.2.2.2.2.2.1 r49.2.2.2.2.2.2.1 r49.2.2.2.2.2.2.2.1 r49.2.2.2.2.2.2.2.2 a54 a1 p2 r62 hr62) (va_cwA (x := ⟨"PailRow$Cond", "is", "(LPailRow;I)Z"⟩) (owner := "PailRow$Cond") 2 hts gu_X21_16_16 rfl rfl rfl (hG.2 _ q1522 rfl) ⟨by decide +kernel, by decide +kernel, by decide +kernel⟩ ⟨by dsimp only; omega, by dsimp only; omega⟩) (x_preV hG hR hW hS k61 rfl) rfl rfl hl.1 rfl (lv_room (Nat.le_of_ble_eq_true rfl)) dX21_is_18 ⟨Nat.zero_le _, Nat.zero_le _⟩) hS (fun H locs hR hS => ?_)
        refine lv_if_eq (tgt := 28) hx hb dX21_is_21 (by decide) (fun c63 => ?_) (fun c63 => ?_)
        · have hf := ite_t c63 hf
          exact hj28 r62.2.1 r62.2.2.1 r62.2.2.2.1 r62.2.2.2.2.1 r62.2.2.2.2.2.1 r62.2.2.2.2.2.2.1 r62.2.2.2.2.2.2.2.1 r62.2.2.2.2.2.2.2.2 0 0 hf _ _ _ hR hS (lv_sub hl [0] rfl)
        · have hf := ite_f c63 hf
          refine lv_iconst (v := 1) hx hb dX21_is_24 li_1 ?_
          refine lv_goto (tgt := 29) hx hb dX21_is_25 (by decide) ?_
          obtain rfl := some_i hf
          exact hend _ _ _ _ dX21_is_29 nz_1 hR hS
      have hf := ite_f k61 hf
      by_cases k64 : r49.2.1 a54 = some (.inl 17)
      · have hf := ite_t k64 hf
        obtain ⟨r65, hr65, hf⟩ := bind_s hf
        refine x0_gor (vx_runU (As := [.ref a1, .int p2]) (rest := []) (b := a54) ⟨hx, hb, hml, hown, hts⟩ (ih_X21_is G r49.2.1 r49.2.2.1 r49.2.2.2.1 r49.2.2.2.2.1 r49.2.2.2.2.2.1 r49.2.2.2.2.2.2.1 r49.2.2.2.2.2.2.2.1 r49.2.2.2.2.2.2.2.2 a54 a1 p2 r65 hr65) (va_cwA (x := ⟨"PailRow$Cond", "is", "(LPailRow;I)Z"⟩) (owner := "PailRow$Cond") 2 hts gu_X21_16_17 rfl rfl rfl (hG.2 _ q1522 rfl) ⟨by decide +kernel, by decide +kernel, by decide +kernel⟩ ⟨by dsimp only; omega, by dsimp only; omega⟩) (x_preV hG hR hW hS k64 rfl) rfl rfl hl.1 rfl (lv_room (Nat.le_of_ble_eq_true rfl)) dX21_is_18 ⟨Nat.zero_le _, Nat.zero_le _⟩) hS (fun H locs hR hS => ?_)
        refine lv_if_eq (tgt := 28) hx hb dX21_is_21 (by decide) (fun c66 => ?_) (fun c66 => ?_)
        · have hf := ite_t c66 hf
          exact hj28 r65.2.1 r65.2.2.1 r65.2.2.2.1 r65.2.2.2.2.1 r65.2.2.2.2.2.1 r65.2.2.2.2.2.2.1 r65.2.2.2.2.2.2.2.1 r65.2.2.2.2.2.2.2.2 0 0 hf _ _ _ hR hS (lv_sub hl [0] rfl)
        · have hf := ite_f c66 hf
          refine lv_iconst (v := 1) hx hb dX21_is_24 li_1 ?_
          refine lv_goto (tgt := 29) hx hb dX21_is_25 (by decide) ?_
          obtain rfl := some_i hf
          exact hend _ _ _ _ dX21_is_29 nz_1 hR hS
      have hf := ite_f k64 hf
      obtain ⟨k67, hf⟩ := gdp_some hf
      obtain ⟨r68, hr68, hf⟩ := bind_s hf
      refine x0_gor (vx_runU (As := [.ref a1, .int p2]) (rest := []) (b := a54) ⟨hx, hb, hml, hown, hts⟩ (ih_X22_is G r49.2.1 r49.2.2.1 r49.2.2.2.1 r49.2.2.2.2.1 r49.2.2.2.2.2.1 r49.2.2.2.2.2.2.1 r49.2.2.2.2.2.2.2.1 r49.2.2.2.2.2.2.2.2 a54 a1 p2 r68 hr68) (va_cwA (x := ⟨"PailRow$Cond", "is", "(LPailRow;I)Z"⟩) (owner := "PailRow$Cond") 2 hts gu_X21_16_18 rfl rfl rfl (hG.2 _ q1522 rfl) ⟨by decide +kernel, by decide +kernel, by decide +kernel⟩ ⟨by dsimp only; omega, by dsimp only; omega⟩) (x_preV hG hR hW hS k67 rfl) rfl rfl hl.1 rfl (lv_room (Nat.le_of_ble_eq_true rfl)) dX21_is_18 ⟨Nat.zero_le _, Nat.zero_le _⟩) hS (fun H locs hR hS => ?_)
      refine lv_if_eq (tgt := 28) hx hb dX21_is_21 (by decide) (fun c69 => ?_) (fun c69 => ?_)
      · have hf := ite_t c69 hf
        exact hj28 r68.2.1 r68.2.2.1 r68.2.2.2.1 r68.2.2.2.2.1 r68.2.2.2.2.2.1 r68.2.2.2.2.2.2.1 r68.2.2.2.2.2.2.2.1 r68.2.2.2.2.2.2.2.2 0 0 hf _ _ _ hR hS (lv_sub hl [0] rfl)
      · have hf := ite_f c69 hf
        refine lv_iconst (v := 1) hx hb dX21_is_24 li_1 ?_
        refine lv_goto (tgt := 29) hx hb dX21_is_25 (by decide) ?_
        obtain rfl := some_i hf
        exact hend _ _ _ _ dX21_is_29 nz_1 hR hS
  have hf := ite_f k48 hf
  by_cases k70 : K a3 = some (.inl 17)
  · have hf := ite_t k70 hf
    obtain ⟨r71, hr71, hf⟩ := bind_s hf
    refine x0_gor (vx_runU (As := [.ref a1, .int p2]) (rest := []) (b := a3) ⟨hx, hb, hml, hown, hts⟩ (ih_X21_is G K I J X A B Q n a3 a1 p2 r71 hr71) (va_cwA (x := ⟨"PailRow$Cond", "is", "(LPailRow;I)Z"⟩) (owner := "PailRow$Cond") 2 hts gu_X21_16_17 rfl rfl rfl (hG.2 _ q1522 rfl) ⟨by decide +kernel, by decide +kernel, by decide +kernel⟩ ⟨by dsimp only; omega, by dsimp only; omega⟩) (x_preV hG hR hW hS k70 rfl) rfl rfl hl.1 rfl (lv_room (Nat.le_of_ble_eq_true rfl)) dX21_is_6 ⟨Nat.zero_le _, Nat.zero_le _⟩) hS (fun H locs hR hS => ?_)
    have hj28 : ∀ (j28_K : gK) (j28_I : gI) (j28_J : gJ) (j28_X : gX) (j28_A : gI) (j28_B : gJ) (j28_Q : gX) (j28_n : Nat) (j28_u : Nat) (j28_v : Nat), w21_is_j28 j28_K j28_I j28_J j28_X j28_A j28_B j28_Q j28_n j28_u j28_v = some out → ∀ (H : Heap) (locs : List Loc) (ls : Array Slot), RS G j28_K j28_I j28_J j28_X j28_A j28_B j28_Q H → va_S (gA G) s.heap H locs → lv_has ls 3 [(0, .ref o)] → W p l e ({ frames := (d + 1) + 1, cells := 0, slots := 0, locals := (d + 1) * 23 + 22 } : Room) s m args below meth c H locs j28_u j28_v Z (F0 m 28 ls []) := by
      intro j28_K j28_I j28_J j28_X j28_A j28_B j28_Q j28_n j28_u j28_v hf H locs ls hR hS hl
      unfold w21_is_j28 at hf
      refine lv_iconst (v := 0) hx hb dX21_is_28 li_0 ?_
      obtain ⟨c72, hf⟩ := gdp_some hf
      refine W.widen c72.1 c72.2 ?_
      obtain rfl := some_i hf
      exact hend _ _ _ _ dX21_is_29 nz_0 hR hS
    refine lv_if_eq (tgt := 28) hx hb dX21_is_9 (by decide) (fun c73 => ?_) (fun c73 => ?_)
    · have hf := ite_t c73 hf
      exact hj28 r71.2.1 r71.2.2.1 r71.2.2.2.1 r71.2.2.2.2.1 r71.2.2.2.2.2.1 r71.2.2.2.2.2.2.1 r71.2.2.2.2.2.2.2.1 r71.2.2.2.2.2.2.2.2 0 0 hf _ _ _ hR hS (lv_sub hl [0] rfl)
    · have hf := ite_f c73 hf
      refine lv_aload_n hx hb dX21_is_12 rfl (lv_at hl 0 rfl) ?_
      obtain ⟨k74, hf⟩ := gdp_some hf
      obtain ⟨x75, ex75, hf⟩ := lt_some hf
      refine g_getx hx hb hts hown hG hR gFx_X21_13_17 k74 dX21_is_13 ?_
      rw [← ex75]
      refine lv_aload_n hx hb dX21_is_16 rfl (lv_at hl 1 rfl) ?_
      refine lv_iload_n hx hb dX21_is_17 rfl (lv_at hl 2 rfl) ?_
      obtain ⟨a76, ha76, hf⟩ := bind_s hf
      try rw [ha76]
      by_cases k77 : r71.2.1 a76 = some (.inl 14)
      · have hf := ite_t k77 hf
        obtain ⟨r78, hr78, hf⟩ := bind_s hf
        refine x0_gor (vx_runU (As := [.ref a1, .int p2]) (rest := []) (b := a76) ⟨hx, hb, hml, hown, hts⟩ (ih_X18_is G r71.2.1 r71.2.2.1 r71.2.2.2.1 r71.2.2.2.2.1 r71.2.2.2.2.2.1 r71.2.2.2.2.2.2.1 r71.2.2.2.2.2.2.2.1 r71.2.2.2.2.2.2.2.2 a76 a1 p2 r78 hr78) (va_cwA (x := ⟨"PailRow$Cond", "is", "(LPailRow;I)Z"⟩) (owner := "PailRow$Cond") 2 hts gu_X21_16_14 rfl rfl rfl (hG.2 _ q1522 rfl) ⟨by decide +kernel, by decide +kernel, by decide +kernel⟩ ⟨by dsimp only; omega, by dsimp only; omega⟩) (x_preV hG hR hW hS k77 rfl) rfl rfl hl.1 rfl (lv_room (Nat.le_of_ble_eq_true rfl)) dX21_is_18 ⟨Nat.zero_le _, Nat.zero_le _⟩) hS (fun H locs hR hS => ?_)
        refine lv_if_eq (tgt := 28) hx hb dX21_is_21 (by decide) (fun c79 => ?_) (fun c79 => ?_)
        · have hf := ite_t c79 hf
          exact hj28 r78.2.1 r78.2.2.1 r78.2.2.2.1 r78.2.2.2.2.1 r78.2.2.2.2.2.1 r78.2.2.2.2.2.2.1 r78.2.2.2.2.2.2.2.1 r78.2.2.2.2.2.2.2.2 0 0 hf _ _ _ hR hS (lv_sub hl [0] rfl)
        · have hf := ite_f c79 hf
          refine lv_iconst (v := 1) hx hb dX21_is_24 li_1 ?_
          refine lv_goto (tgt := 29) hx hb dX21_is_25 (by decide) ?_
          obtain rfl := some_i hf
          exact hend _ _ _ _ dX21_is_29 nz_1 hR hS
      have hf := ite_f k77 hf
      by_cases k80 : r71.2.1 a76 = some (.inl 15)
      · have hf := ite_t k80 hf
        obtain ⟨r81, hr81, hf⟩ := bind_s hf
        refine x0_gor (vx_runU (As := [.ref a1, .int p2]) (rest := []) (b := a76) ⟨hx, hb, hml, hown, hts⟩ (ih_X19_is G r71.2.1 r71.2.2.1 r71.2.2.2.1 r71.2.2.2.2.1 r71.2.2.2.2.2.1 r71.2.2.2.2.2.2.1 r71.2.2.2.2.2.2.2.1 r71.2.2.2.2.2.2.2.2 a76 a1 p2 r81 hr81) (va_cwA (x := ⟨"PailRow$Cond", "is", "(LPailRow;I)Z"⟩) (owner := "PailRow$Cond") 2 hts gu_X21_16_15 rfl rfl rfl (hG.2 _ q1522 rfl) ⟨by decide +kernel, by decide +kernel, by decide +kernel⟩ ⟨by dsimp only; omega, by dsimp only; omega⟩) (x_preV hG hR hW hS k80 rfl) rfl rfl hl.1 rfl (lv_room (Nat.le_of_ble_eq_true rfl)) dX21_is_18 ⟨Nat.zero_le _, Nat.zero_le _⟩) hS (fun H locs hR hS => ?_)
        refine lv_if_eq (tgt := 28) hx hb dX21_is_21 (by decide) (fun c82 => ?_) (fun c82 => ?_)
        · have hf := ite_t c82 hf
          exact hj28 r81.2.1 r81.2.2.1 r81.2.2.2.1 r81.2.2.2.2.1 r81.2.2.2.2.2.1 r81.2.2.2.2.2.2.1 r81.2.2.2.2.2.2.2.1 r81.2.2.2.2.2.2.2.2 0 0 hf _ _ _ hR hS (lv_sub hl [0] rfl)
        · have hf := ite_f c82 hf
          refine lv_iconst (v := 1) hx hb dX21_is_24 li_1 ?_
          refine lv_goto (tgt := 29) hx hb dX21_is_25 (by decide) ?_
          obtain rfl := some_i hf
          exact hend _ _ _ _ dX21_is_29 nz_1 hR hS
      have hf := ite_f k80 hf
      by_cases k83 : r71.2.1 a76 = some (.inl 16)
      · have hf := ite_t k83 hf
        obtain ⟨r84, hr84, hf⟩ := bind_s hf
        refine x0_gor (vx_runU (As := [.ref a1, .int p2]) (rest := []) (b := a76) ⟨hx, hb, hml, hown, hts⟩ (ih_X20_is G r71.2.1 r71.2.2.1 r71.2.2.2.1 r71.2.2.2.2.1 r71.2.2.2.2.2.1 r71.2.2.2.2.2.2.1 r71.2.2.2.2.2.2.2.1 r71.2.2.2.2.2.2.2.2 a76 a1 p2 r84 hr84) (va_cwA (x := ⟨"PailRow$Cond", "is", "(LPailRow;I)Z"⟩) (owner := "PailRow$Cond") 2 hts gu_X21_16_16 rfl rfl rfl (hG.2 _ q1522 rfl) ⟨by decide +kernel, by decide +kernel, by decide +kernel⟩ ⟨by dsimp only; omega, by dsimp only; omega⟩) (x_preV hG hR hW hS k83 rfl) rfl rfl hl.1 rfl (lv_room (Nat.le_of_ble_eq_true rfl)) dX21_is_18 ⟨Nat.zero_le _, Nat.zero_le _⟩) hS (fun H locs hR hS => ?_)
        refine lv_if_eq (tgt := 28) hx hb dX21_is_21 (by decide) (fun c85 => ?_) (fun c85 => ?_)
        · have hf := ite_t c85 hf
          exact hj28 r84.2.1 r84.2.2.1 r84.2.2.2.1 r84.2.2.2.2.1 r84.2.2.2.2.2.1 r84.2.2.2.2.2.2.1 r84.2.2.2.2.2.2.2.1 r84.2.2.2.2.2.2.2.2 0 0 hf _ _ _ hR hS (lv_sub hl [0] rfl)
        · have hf := ite_f c85 hf
          refine lv_iconst (v := 1) hx hb dX21_is_24 li_1 ?_
          refine lv_goto (tgt := 29) hx hb dX21_is_25 (by decide) ?_
          obtain rfl := some_i hf
          exact hend _ _ _ _ dX21_is_29 nz_1 hR hS
      have hf := ite_f k83 hf
      by_cases k86 : r71.2.1 a76 = some (.inl 17)
      · have hf := ite_t k86 hf
        obtain ⟨r87, hr87, hf⟩ := bind_s hf
        refine x0_gor (vx_runU (As := [.ref a1, .int p2]) (rest := []) (b := a76) ⟨hx, hb, hml, hown, hts⟩ (ih_X21_is G r71.2.1 r71.2.2.1 r71.2.2.2.1 r71.2.2.2.2.1 r71.2.2.2.2.2.1 r71.2.2.2.2.2.2.1 r71.2.2.2.2.2.2.2.1 r71.2.2.2.2.2.2.2.2 a76 a1 p2 r87 hr87) (va_cwA (x := ⟨"PailRow$Cond", "is", "(LPailRow;I)Z"⟩) (owner := "PailRow$Cond") 2 hts gu_X21_16_17 rfl rfl rfl (hG.2 _ q1522 rfl) ⟨by decide +kernel, by decide +kernel, by decide +kernel⟩ ⟨by dsimp only; omega, by dsimp only; omega⟩) (x_preV hG hR hW hS k86 rfl) rfl rfl hl.1 rfl (lv_room (Nat.le_of_ble_eq_true rfl)) dX21_is_18 ⟨Nat.zero_le _, Nat.zero_le _⟩) hS (fun H locs hR hS => ?_)
        refine lv_if_eq (tgt := 28) hx hb dX21_is_21 (by decide) (fun c88 => ?_) (fun c88 => ?_)
        · have hf := ite_t c88 hf
          exact hj28 r87.2.1 r87.2.2.1 r87.2.2.2.1 r87.2.2.2.2.1 r87.2.2.2.2.2.1 r87.2.2.2.2.2.2.1 r87.2.2.2.2.2.2.2.1 r87.2.2.2.2.2.2.2.2 0 0 hf _ _ _ hR hS (lv_sub hl [0] rfl)
        · have hf := ite_f c88 hf
          refine lv_iconst (v := 1) hx hb dX21_is_24 li_1 ?_
          refine lv_goto (tgt := 29) hx hb dX21_is_25 (by decide) ?_
          obtain rfl := some_i hf
          exact hend _ _ _ _ dX21_is_29 nz_1 hR hS
      have hf := ite_f k86 hf
      obtain ⟨k89, hf⟩ := gdp_some hf
      obtain ⟨r90, hr90, hf⟩ := bind_s hf
      refine x0_gor (vx_runU (As := [.ref a1, .int p2]) (rest := []) (b := a76) ⟨hx, hb, hml, hown, hts⟩ (ih_X22_is G r71.2.1 r71.2.2.1 r71.2.2.2.1 r71.2.2.2.2.1 r71.2.2.2.2.2.1 r71.2.2.2.2.2.2.1 r71.2.2.2.2.2.2.2.1 r71.2.2.2.2.2.2.2.2 a76 a1 p2 r90 hr90) (va_cwA (x := ⟨"PailRow$Cond", "is", "(LPailRow;I)Z"⟩) (owner := "PailRow$Cond") 2 hts gu_X21_16_18 rfl rfl rfl (hG.2 _ q1522 rfl) ⟨by decide +kernel, by decide +kernel, by decide +kernel⟩ ⟨by dsimp only; omega, by dsimp only; omega⟩) (x_preV hG hR hW hS k89 rfl) rfl rfl hl.1 rfl (lv_room (Nat.le_of_ble_eq_true rfl)) dX21_is_18 ⟨Nat.zero_le _, Nat.zero_le _⟩) hS (fun H locs hR hS => ?_)
      refine lv_if_eq (tgt := 28) hx hb dX21_is_21 (by decide) (fun c91 => ?_) (fun c91 => ?_)
      · have hf := ite_t c91 hf
        exact hj28 r90.2.1 r90.2.2.1 r90.2.2.2.1 r90.2.2.2.2.1 r90.2.2.2.2.2.1 r90.2.2.2.2.2.2.1 r90.2.2.2.2.2.2.2.1 r90.2.2.2.2.2.2.2.2 0 0 hf _ _ _ hR hS (lv_sub hl [0] rfl)
      · have hf := ite_f c91 hf
        refine lv_iconst (v := 1) hx hb dX21_is_24 li_1 ?_
        refine lv_goto (tgt := 29) hx hb dX21_is_25 (by decide) ?_
        obtain rfl := some_i hf
        exact hend _ _ _ _ dX21_is_29 nz_1 hR hS
  have hf := ite_f k70 hf
  obtain ⟨k92, hf⟩ := gdp_some hf
  obtain ⟨r93, hr93, hf⟩ := bind_s hf
  refine x0_gor (vx_runU (As := [.ref a1, .int p2]) (rest := []) (b := a3) ⟨hx, hb, hml, hown, hts⟩ (ih_X22_is G K I J X A B Q n a3 a1 p2 r93 hr93) (va_cwA (x := ⟨"PailRow$Cond", "is", "(LPailRow;I)Z"⟩) (owner := "PailRow$Cond") 2 hts gu_X21_16_18 rfl rfl rfl (hG.2 _ q1522 rfl) ⟨by decide +kernel, by decide +kernel, by decide +kernel⟩ ⟨by dsimp only; omega, by dsimp only; omega⟩) (x_preV hG hR hW hS k92 rfl) rfl rfl hl.1 rfl (lv_room (Nat.le_of_ble_eq_true rfl)) dX21_is_6 ⟨Nat.zero_le _, Nat.zero_le _⟩) hS (fun H locs hR hS => ?_)
  have hj28 : ∀ (j28_K : gK) (j28_I : gI) (j28_J : gJ) (j28_X : gX) (j28_A : gI) (j28_B : gJ) (j28_Q : gX) (j28_n : Nat) (j28_u : Nat) (j28_v : Nat), w21_is_j28 j28_K j28_I j28_J j28_X j28_A j28_B j28_Q j28_n j28_u j28_v = some out → ∀ (H : Heap) (locs : List Loc) (ls : Array Slot), RS G j28_K j28_I j28_J j28_X j28_A j28_B j28_Q H → va_S (gA G) s.heap H locs → lv_has ls 3 [(0, .ref o)] → W p l e ({ frames := (d + 1) + 1, cells := 0, slots := 0, locals := (d + 1) * 23 + 22 } : Room) s m args below meth c H locs j28_u j28_v Z (F0 m 28 ls []) := by
    intro j28_K j28_I j28_J j28_X j28_A j28_B j28_Q j28_n j28_u j28_v hf H locs ls hR hS hl
    unfold w21_is_j28 at hf
    refine lv_iconst (v := 0) hx hb dX21_is_28 li_0 ?_
    obtain ⟨c94, hf⟩ := gdp_some hf
    refine W.widen c94.1 c94.2 ?_
    obtain rfl := some_i hf
    exact hend _ _ _ _ dX21_is_29 nz_0 hR hS
  refine lv_if_eq (tgt := 28) hx hb dX21_is_9 (by decide) (fun c95 => ?_) (fun c95 => ?_)
  · have hf := ite_t c95 hf
    exact hj28 r93.2.1 r93.2.2.1 r93.2.2.2.1 r93.2.2.2.2.1 r93.2.2.2.2.2.1 r93.2.2.2.2.2.2.1 r93.2.2.2.2.2.2.2.1 r93.2.2.2.2.2.2.2.2 0 0 hf _ _ _ hR hS (lv_sub hl [0] rfl)
  · have hf := ite_f c95 hf
    refine lv_aload_n hx hb dX21_is_12 rfl (lv_at hl 0 rfl) ?_
    obtain ⟨k96, hf⟩ := gdp_some hf
    obtain ⟨x97, ex97, hf⟩ := lt_some hf
    refine g_getx hx hb hts hown hG hR gFx_X21_13_17 k96 dX21_is_13 ?_
    rw [← ex97]
    refine lv_aload_n hx hb dX21_is_16 rfl (lv_at hl 1 rfl) ?_
    refine lv_iload_n hx hb dX21_is_17 rfl (lv_at hl 2 rfl) ?_
    obtain ⟨a98, ha98, hf⟩ := bind_s hf
    try rw [ha98]
    by_cases k99 : r93.2.1 a98 = some (.inl 14)
    · have hf := ite_t k99 hf
      obtain ⟨r100, hr100, hf⟩ := bind_s hf
      refine x0_gor (vx_runU (As := [.ref a1, .int p2]) (rest := []) (b := a98) ⟨hx, hb, hml, hown, hts⟩ (ih_X18_is G r93.2.1 r93.2.2.1 r93.2.2.2.1 r93.2.2.2.2.1 r93.2.2.2.2.2.1 r93.2.2.2.2.2.2.1 r93.2.2.2.2.2.2.2.1 r93.2.2.2.2.2.2.2.2 a98 a1 p2 r100 hr100) (va_cwA (x := ⟨"PailRow$Cond", "is", "(LPailRow;I)Z"⟩) (owner := "PailRow$Cond") 2 hts gu_X21_16_14 rfl rfl rfl (hG.2 _ q1522 rfl) ⟨by decide +kernel, by decide +kernel, by decide +kernel⟩ ⟨by dsimp only; omega, by dsimp only; omega⟩) (x_preV hG hR hW hS k99 rfl) rfl rfl hl.1 rfl (lv_room (Nat.le_of_ble_eq_true rfl)) dX21_is_18 ⟨Nat.zero_le _, Nat.zero_le _⟩) hS (fun H locs hR hS => ?_)
      refine lv_if_eq (tgt := 28) hx hb dX21_is_21 (by decide) (fun c101 => ?_) (fun c101 => ?_)
      · have hf := ite_t c101 hf
        exact hj28 r100.2.1 r100.2.2.1 r100.2.2.2.1 r100.2.2.2.2.1 r100.2.2.2.2.2.1 r100.2.2.2.2.2.2.1 r100.2.2.2.2.2.2.2.1 r100.2.2.2.2.2.2.2.2 0 0 hf _ _ _ hR hS (lv_sub hl [0] rfl)
      · have hf := ite_f c101 hf
        refine lv_iconst (v := 1) hx hb dX21_is_24 li_1 ?_
        refine lv_goto (tgt := 29) hx hb dX21_is_25 (by decide) ?_
        obtain rfl := some_i hf
        exact hend _ _ _ _ dX21_is_29 nz_1 hR hS
    have hf := ite_f k99 hf
    by_cases k102 : r93.2.1 a98 = some (.inl 15)
    · have hf := ite_t k102 hf
      obtain ⟨r103, hr103, hf⟩ := bind_s hf
      refine x0_gor (vx_runU (As := [.ref a1, .int p2]) (rest := []) (b := a98) ⟨hx, hb, hml, hown, hts⟩ (ih_X19_is G r93.2.1 r93.2.2.1 r93.2.2.2.1 r93.2.2.2.2.1 r93.2.2.2.2.2.1 r93.2.2.2.2.2.2.1 r93.2.2.2.2.2.2.2.1 r93.2.2.2.2.2.2.2.2 a98 a1 p2 r103 hr103) (va_cwA (x := ⟨"PailRow$Cond", "is", "(LPailRow;I)Z"⟩) (owner := "PailRow$Cond") 2 hts gu_X21_16_15 rfl rfl rfl (hG.2 _ q1522 rfl) ⟨by decide +kernel, by decide +kernel, by decide +kernel⟩ ⟨by dsimp only; omega, by dsimp only; omega⟩) (x_preV hG hR hW hS k102 rfl) rfl rfl hl.1 rfl (lv_room (Nat.le_of_ble_eq_true rfl)) dX21_is_18 ⟨Nat.zero_le _, Nat.zero_le _⟩) hS (fun H locs hR hS => ?_)
      refine lv_if_eq (tgt := 28) hx hb dX21_is_21 (by decide) (fun c104 => ?_) (fun c104 => ?_)
      · have hf := ite_t c104 hf
        exact hj28 r103.2.1 r103.2.2.1 r103.2.2.2.1 r103.2.2.2.2.1 r103.2.2.2.2.2.1 r103.2.2.2.2.2.2.1 r103.2.2.2.2.2.2.2.1 r103.2.2.2.2.2.2.2.2 0 0 hf _ _ _ hR hS (lv_sub hl [0] rfl)
      · have hf := ite_f c104 hf
        refine lv_iconst (v := 1) hx hb dX21_is_24 li_1 ?_
        refine lv_goto (tgt := 29) hx hb dX21_is_25 (by decide) ?_
        obtain rfl := some_i hf
        exact hend _ _ _ _ dX21_is_29 nz_1 hR hS
    have hf := ite_f k102 hf
    by_cases k105 : r93.2.1 a98 = some (.inl 16)
    · have hf := ite_t k105 hf
      obtain ⟨r106, hr106, hf⟩ := bind_s hf
      refine x0_gor (vx_runU (As := [.ref a1, .int p2]) (rest := []) (b := a98) ⟨hx, hb, hml, hown, hts⟩ (ih_X20_is G r93.2.1 r93.2.2.1 r93.2.2.2.1 r93.2.2.2.2.1 r93.2.2.2.2.2.1 r93.2.2.2.2.2.2.1 r93.2.2.2.2.2.2.2.1 r93.2.2.2.2.2.2.2.2 a98 a1 p2 r106 hr106) (va_cwA (x := ⟨"PailRow$Cond", "is", "(LPailRow;I)Z"⟩) (owner := "PailRow$Cond") 2 hts gu_X21_16_16 rfl rfl rfl (hG.2 _ q1522 rfl) ⟨by decide +kernel, by decide +kernel, by decide +kernel⟩ ⟨by dsimp only; omega, by dsimp only; omega⟩) (x_preV hG hR hW hS k105 rfl) rfl rfl hl.1 rfl (lv_room (Nat.le_of_ble_eq_true rfl)) dX21_is_18 ⟨Nat.zero_le _, Nat.zero_le _⟩) hS (fun H locs hR hS => ?_)
      refine lv_if_eq (tgt := 28) hx hb dX21_is_21 (by decide) (fun c107 => ?_) (fun c107 => ?_)
      · have hf := ite_t c107 hf
        exact hj28 r106.2.1 r106.2.2.1 r106.2.2.2.1 r106.2.2.2.2.1 r106.2.2.2.2.2.1 r106.2.2.2.2.2.2.1 r106.2.2.2.2.2.2.2.1 r106.2.2.2.2.2.2.2.2 0 0 hf _ _ _ hR hS (lv_sub hl [0] rfl)
      · have hf := ite_f c107 hf
        refine lv_iconst (v := 1) hx hb dX21_is_24 li_1 ?_
        refine lv_goto (tgt := 29) hx hb dX21_is_25 (by decide) ?_
        obtain rfl := some_i hf
        exact hend _ _ _ _ dX21_is_29 nz_1 hR hS
    have hf := ite_f k105 hf
    by_cases k108 : r93.2.1 a98 = some (.inl 17)
    · have hf := ite_t k108 hf
      obtain ⟨r109, hr109, hf⟩ := bind_s hf
      refine x0_gor (vx_runU (As := [.ref a1, .int p2]) (rest := []) (b := a98) ⟨hx, hb, hml, hown, hts⟩ (ih_X21_is G r93.2.1 r93.2.2.1 r93.2.2.2.1 r93.2.2.2.2.1 r93.2.2.2.2.2.1 r93.2.2.2.2.2.2.1 r93.2.2.2.2.2.2.2.1 r93.2.2.2.2.2.2.2.2 a98 a1 p2 r109 hr109) (va_cwA (x := ⟨"PailRow$Cond", "is", "(LPailRow;I)Z"⟩) (owner := "PailRow$Cond") 2 hts gu_X21_16_17 rfl rfl rfl (hG.2 _ q1522 rfl) ⟨by decide +kernel, by decide +kernel, by decide +kernel⟩ ⟨by dsimp only; omega, by dsimp only; omega⟩) (x_preV hG hR hW hS k108 rfl) rfl rfl hl.1 rfl (lv_room (Nat.le_of_ble_eq_true rfl)) dX21_is_18 ⟨Nat.zero_le _, Nat.zero_le _⟩) hS (fun H locs hR hS => ?_)
      refine lv_if_eq (tgt := 28) hx hb dX21_is_21 (by decide) (fun c110 => ?_) (fun c110 => ?_)
      · have hf := ite_t c110 hf
        exact hj28 r109.2.1 r109.2.2.1 r109.2.2.2.1 r109.2.2.2.2.1 r109.2.2.2.2.2.1 r109.2.2.2.2.2.2.1 r109.2.2.2.2.2.2.2.1 r109.2.2.2.2.2.2.2.2 0 0 hf _ _ _ hR hS (lv_sub hl [0] rfl)
      · have hf := ite_f c110 hf
        refine lv_iconst (v := 1) hx hb dX21_is_24 li_1 ?_
        refine lv_goto (tgt := 29) hx hb dX21_is_25 (by decide) ?_
        obtain rfl := some_i hf
        exact hend _ _ _ _ dX21_is_29 nz_1 hR hS
    have hf := ite_f k108 hf
    obtain ⟨k111, hf⟩ := gdp_some hf
    obtain ⟨r112, hr112, hf⟩ := bind_s hf
    refine x0_gor (vx_runU (As := [.ref a1, .int p2]) (rest := []) (b := a98) ⟨hx, hb, hml, hown, hts⟩ (ih_X22_is G r93.2.1 r93.2.2.1 r93.2.2.2.1 r93.2.2.2.2.1 r93.2.2.2.2.2.1 r93.2.2.2.2.2.2.1 r93.2.2.2.2.2.2.2.1 r93.2.2.2.2.2.2.2.2 a98 a1 p2 r112 hr112) (va_cwA (x := ⟨"PailRow$Cond", "is", "(LPailRow;I)Z"⟩) (owner := "PailRow$Cond") 2 hts gu_X21_16_18 rfl rfl rfl (hG.2 _ q1522 rfl) ⟨by decide +kernel, by decide +kernel, by decide +kernel⟩ ⟨by dsimp only; omega, by dsimp only; omega⟩) (x_preV hG hR hW hS k111 rfl) rfl rfl hl.1 rfl (lv_room (Nat.le_of_ble_eq_true rfl)) dX21_is_18 ⟨Nat.zero_le _, Nat.zero_le _⟩) hS (fun H locs hR hS => ?_)
    refine lv_if_eq (tgt := 28) hx hb dX21_is_21 (by decide) (fun c113 => ?_) (fun c113 => ?_)
    · have hf := ite_t c113 hf
      exact hj28 r112.2.1 r112.2.2.1 r112.2.2.2.1 r112.2.2.2.2.1 r112.2.2.2.2.2.1 r112.2.2.2.2.2.2.1 r112.2.2.2.2.2.2.2.1 r112.2.2.2.2.2.2.2.2 0 0 hf _ _ _ hR hS (lv_sub hl [0] rfl)
    · have hf := ite_f c113 hf
      refine lv_iconst (v := 1) hx hb dX21_is_24 li_1 ?_
      refine lv_goto (tgt := 29) hx hb dX21_is_25 (by decide) ?_
      obtain rfl := some_i hf
      exact hend _ _ _ _ dX21_is_29 nz_1 hR hS
set_option maxHeartbeats 4000000 in
theorem y22_is (l : Launch) (d : Nat) (q_X18_is : Nat → (Nat → Nat) → Nat → Nat → Int32 → gK → gI → gJ → gX → gI → gJ → gX → Nat → Option (Int32 × gK × gI × gJ × gX × gI × gJ × gX × Nat)) (q_X19_is : Nat → (Nat → Nat) → Nat → Nat → Int32 → gK → gI → gJ → gX → gI → gJ → gX → Nat → Option (Int32 × gK × gI × gJ × gX × gI × gJ × gX × Nat)) (q_X20_is : Nat → (Nat → Nat) → Nat → Nat → Int32 → gK → gI → gJ → gX → gI → gJ → gX → Nat → Option (Int32 × gK × gI × gJ × gX × gI × gJ × gX × Nat)) (q_X21_is : Nat → (Nat → Nat) → Nat → Nat → Int32 → gK → gI → gJ → gX → gI → gJ → gX → Nat → Option (Int32 × gK × gI × gJ × gX × gI × gJ × gX × Nat)) (q_X22_is : Nat → (Nat → Nat) → Nat → Nat → Int32 → gK → gI → gJ → gX → gI → gJ → gX → Nat → Option (Int32 × gK × gI × gJ × gX × gI × gJ × gX × Nat)) (ih_X18_is : ∀ (G : gG) (K : gK) (I : gI) (J : gJ) (X : gX) (A : gI) (B : gJ) (Q : gX) (n : Nat) (o : Nat) (a1 : Nat) (p2 : Int32) (out : Int32 × gK × gI × gJ × gX × gI × gJ × gX × Nat) (hf : q_X18_is G.2.2 (aK G) o a1 p2 K I J X A B Q n = some out) , GMetX l yX18_is cX18_is 3 (some .boolean) (d + 1) (d * 23 + 22) G [.ref o, .ref a1, .int p2] K I J X A B Q (.inr (some (.int out.1))) out.2.1 out.2.2.1 out.2.2.2.1 out.2.2.2.2.1 out.2.2.2.2.2.1 out.2.2.2.2.2.2.1 out.2.2.2.2.2.2.2.1 0 0) (ih_X19_is : ∀ (G : gG) (K : gK) (I : gI) (J : gJ) (X : gX) (A : gI) (B : gJ) (Q : gX) (n : Nat) (o : Nat) (a1 : Nat) (p2 : Int32) (out : Int32 × gK × gI × gJ × gX × gI × gJ × gX × Nat) (hf : q_X19_is G.2.2 (aK G) o a1 p2 K I J X A B Q n = some out) , GMetX l yX19_is cX19_is 4 (some .boolean) (d + 1) (d * 23 + 22) G [.ref o, .ref a1, .int p2] K I J X A B Q (.inr (some (.int out.1))) out.2.1 out.2.2.1 out.2.2.2.1 out.2.2.2.2.1 out.2.2.2.2.2.1 out.2.2.2.2.2.2.1 out.2.2.2.2.2.2.2.1 0 0) (ih_X20_is : ∀ (G : gG) (K : gK) (I : gI) (J : gJ) (X : gX) (A : gI) (B : gJ) (Q : gX) (n : Nat) (o : Nat) (a1 : Nat) (p2 : Int32) (out : Int32 × gK × gI × gJ × gX × gI × gJ × gX × Nat) (hf : q_X20_is G.2.2 (aK G) o a1 p2 K I J X A B Q n = some out) , GMetX l yX20_is cX20_is 3 (some .boolean) (d + 1) (d * 23 + 22) G [.ref o, .ref a1, .int p2] K I J X A B Q (.inr (some (.int out.1))) out.2.1 out.2.2.1 out.2.2.2.1 out.2.2.2.2.1 out.2.2.2.2.2.1 out.2.2.2.2.2.2.1 out.2.2.2.2.2.2.2.1 0 0) (ih_X21_is : ∀ (G : gG) (K : gK) (I : gI) (J : gJ) (X : gX) (A : gI) (B : gJ) (Q : gX) (n : Nat) (o : Nat) (a1 : Nat) (p2 : Int32) (out : Int32 × gK × gI × gJ × gX × gI × gJ × gX × Nat) (hf : q_X21_is G.2.2 (aK G) o a1 p2 K I J X A B Q n = some out) , GMetX l yX21_is cX21_is 3 (some .boolean) (d + 1) (d * 23 + 22) G [.ref o, .ref a1, .int p2] K I J X A B Q (.inr (some (.int out.1))) out.2.1 out.2.2.1 out.2.2.2.1 out.2.2.2.2.1 out.2.2.2.2.2.1 out.2.2.2.2.2.2.1 out.2.2.2.2.2.2.2.1 0 0) (ih_X22_is : ∀ (G : gG) (K : gK) (I : gI) (J : gJ) (X : gX) (A : gI) (B : gJ) (Q : gX) (n : Nat) (o : Nat) (a1 : Nat) (p2 : Int32) (out : Int32 × gK × gI × gJ × gX × gI × gJ × gX × Nat) (hf : q_X22_is G.2.2 (aK G) o a1 p2 K I J X A B Q n = some out) , GMetX l yX22_is cX22_is 3 (some .boolean) (d + 1) (d * 23 + 22) G [.ref o, .ref a1, .int p2] K I J X A B Q (.inr (some (.int out.1))) out.2.1 out.2.2.1 out.2.2.2.1 out.2.2.2.2.1 out.2.2.2.2.2.1 out.2.2.2.2.2.2.1 out.2.2.2.2.2.2.2.1 0 0) : ∀ (G : gG) (K : gK) (I : gI) (J : gJ) (X : gX) (A : gI) (B : gJ) (Q : gX) (n : Nat) (o : Nat) (a1 : Nat) (p2 : Int32) (out : Int32 × gK × gI × gJ × gX × gI × gJ × gX × Nat) (hf : wb22_is q_X18_is q_X19_is q_X20_is q_X21_is q_X22_is G.2.2 (aK G) o a1 p2 K I J X A B Q n = some out), GMetX l yX22_is cX22_is 3 (some .boolean) ((d + 1) + 1) ((d + 1) * 23 + 22) G [.ref o, .ref a1, .int p2] K I J X A B Q (.inr (some (.int out.1))) out.2.1 out.2.2.1 out.2.2.2.1 out.2.2.2.2.1 out.2.2.2.2.2.1 out.2.2.2.2.2.2.1 out.2.2.2.2.2.2.2.1 0 0 := by
  intro G K I J X A B Q n o a1 p2 out hf
  refine GMetX.of (y := yX22_is) rfl (Nat.le_of_ble_eq_true rfl) (la := [(0, .ref o), (1, .ref a1), (2, .int p2)]) rfl ?_
  intro p e s m below meth c ls hx hb hr hml hlocks hts hown hname ht hG hR hW hl
  have hown : s.vm.findClass RX22 = some m.cls := hown
  have hS : va_S (gA G) s.heap s.heap [] := va_S.rf
  have hend : ∀ (pc : Nat) (H : Heap) (locs : List Loc) (ls : Array Slot), decode cX22_is pc = .ok (.ireturn, 1) → narrow .boolean (.int out.1) = .int out.1 → RS G out.2.1 out.2.2.1 out.2.2.2.1 out.2.2.2.2.1 out.2.2.2.2.2.1 out.2.2.2.2.2.2.1 out.2.2.2.2.2.2.2.1 H → va_S (gA G) s.heap H locs → W p l e ({ frames := (d + 1) + 1, cells := 0, slots := 0, locals := (d + 1) * 23 + 22 } : Room) s m ([.ref o, .ref a1, .int p2] : List Value).toArray below meth c H locs 0 0 (vx_MQ below (xQ G (.inr (some (.int out.1))) out.2.1 out.2.2.1 out.2.2.2.1 out.2.2.2.2.1 out.2.2.2.2.2.1 out.2.2.2.2.2.2.1 out.2.2.2.2.2.2.2.1) (xX G (.inr (some (.int out.1))) out.2.1 out.2.2.1 out.2.2.2.1 out.2.2.2.2.1 out.2.2.2.2.2.1 out.2.2.2.2.2.2.1 out.2.2.2.2.2.2.2.1) ([.ref o, .ref a1, .int p2] : List Value).toArray s 0 0 (gA G)) (F0 m pc ls [.int out.1]) := fun pc H locs ls hd hz hR hS => x_nret hx hb hr hz hlocks hG hR hS rfl hd
  generalize vx_MQ below (xQ G (.inr (some (.int out.1))) out.2.1 out.2.2.1 out.2.2.2.1 out.2.2.2.2.1 out.2.2.2.2.2.1 out.2.2.2.2.2.2.1 out.2.2.2.2.2.2.2.1) (xX G (.inr (some (.int out.1))) out.2.1 out.2.2.1 out.2.2.2.1 out.2.2.2.2.1 out.2.2.2.2.2.1 out.2.2.2.2.2.2.1 out.2.2.2.2.2.2.2.1) ([.ref o, .ref a1, .int p2] : List Value).toArray s 0 0 (gA G) = Z at hend ⊢
  generalize ([.ref o, .ref a1, .int p2] : List Value).toArray = args at hts hend ⊢
  unfold wb22_is at hf
  refine lv_aload_n hx hb dX22_is_0 rfl (lv_at hl 0 rfl) ?_
  obtain ⟨k1, hf⟩ := gdp_some hf
  obtain ⟨x2, ex2, hf⟩ := lt_some hf
  refine g_getx hx hb hts hown hG hR gFx_X22_7_18 k1 dX22_is_1 ?_
  rw [← ex2]
  refine lv_aload_n hx hb dX22_is_4 rfl (lv_at hl 1 rfl) ?_
  refine lv_iload_n hx hb dX22_is_5 rfl (lv_at hl 2 rfl) ?_
  obtain ⟨a3, ha3, hf⟩ := bind_s hf
  try rw [ha3]
  by_cases k4 : K a3 = some (.inl 14)
  · have hf := ite_t k4 hf
    obtain ⟨r5, hr5, hf⟩ := bind_s hf
    refine x0_gor (vx_runU (As := [.ref a1, .int p2]) (rest := []) (b := a3) ⟨hx, hb, hml, hown, hts⟩ (ih_X18_is G K I J X A B Q n a3 a1 p2 r5 hr5) (va_cwA (x := ⟨"PailRow$Cond", "is", "(LPailRow;I)Z"⟩) (owner := "PailRow$Cond") 2 hts gu_X22_16_14 rfl rfl rfl (hG.2 _ q1522 rfl) ⟨by decide +kernel, by decide +kernel, by decide +kernel⟩ ⟨by dsimp only; omega, by dsimp only; omega⟩) (x_preV hG hR hW hS k4 rfl) rfl rfl hl.1 rfl (lv_room (Nat.le_of_ble_eq_true rfl)) dX22_is_6 ⟨Nat.zero_le _, Nat.zero_le _⟩) hS (fun H locs hR hS => ?_)
    have hj24 : ∀ (j24_K : gK) (j24_I : gI) (j24_J : gJ) (j24_X : gX) (j24_A : gI) (j24_B : gJ) (j24_Q : gX) (j24_n : Nat) (j24_u : Nat) (j24_v : Nat), w22_is_j24 j24_K j24_I j24_J j24_X j24_A j24_B j24_Q j24_n j24_u j24_v = some out → ∀ (H : Heap) (locs : List Loc) (ls : Array Slot), RS G j24_K j24_I j24_J j24_X j24_A j24_B j24_Q H → va_S (gA G) s.heap H locs → lv_has ls 3 [(0, .ref o)] → W p l e ({ frames := (d + 1) + 1, cells := 0, slots := 0, locals := (d + 1) * 23 + 22 } : Room) s m args below meth c H locs j24_u j24_v Z (F0 m 24 ls []) := by
      intro j24_K j24_I j24_J j24_X j24_A j24_B j24_Q j24_n j24_u j24_v hf H locs ls hR hS hl
      unfold w22_is_j24 at hf
      refine lv_iconst (v := 1) hx hb dX22_is_24 li_1 ?_
      refine lv_goto (tgt := 29) hx hb dX22_is_25 (by decide) ?_
      obtain ⟨c6, hf⟩ := gdp_some hf
      refine W.widen c6.1 c6.2 ?_
      obtain rfl := some_i hf
      exact hend _ _ _ _ dX22_is_29 nz_1 hR hS
    refine lv_if_ne (tgt := 24) hx hb dX22_is_9 (by decide) (fun c7 => ?_) (fun c7 => ?_)
    · have hf := ite_f c7 hf
      exact hj24 r5.2.1 r5.2.2.1 r5.2.2.2.1 r5.2.2.2.2.1 r5.2.2.2.2.2.1 r5.2.2.2.2.2.2.1 r5.2.2.2.2.2.2.2.1 r5.2.2.2.2.2.2.2.2 0 0 hf _ _ _ hR hS (lv_sub hl [0] rfl)
    · have hf := ite_t c7 hf
      refine lv_aload_n hx hb dX22_is_12 rfl (lv_at hl 0 rfl) ?_
      obtain ⟨k8, hf⟩ := gdp_some hf
      obtain ⟨x9, ex9, hf⟩ := lt_some hf
      refine g_getx hx hb hts hown hG hR gFx_X22_13_18 k8 dX22_is_13 ?_
      rw [← ex9]
      refine lv_aload_n hx hb dX22_is_16 rfl (lv_at hl 1 rfl) ?_
      refine lv_iload_n hx hb dX22_is_17 rfl (lv_at hl 2 rfl) ?_
      obtain ⟨a10, ha10, hf⟩ := bind_s hf
      try rw [ha10]
      by_cases k11 : r5.2.1 a10 = some (.inl 14)
      · have hf := ite_t k11 hf
        obtain ⟨r12, hr12, hf⟩ := bind_s hf
        refine x0_gor (vx_runU (As := [.ref a1, .int p2]) (rest := []) (b := a10) ⟨hx, hb, hml, hown, hts⟩ (ih_X18_is G r5.2.1 r5.2.2.1 r5.2.2.2.1 r5.2.2.2.2.1 r5.2.2.2.2.2.1 r5.2.2.2.2.2.2.1 r5.2.2.2.2.2.2.2.1 r5.2.2.2.2.2.2.2.2 a10 a1 p2 r12 hr12) (va_cwA (x := ⟨"PailRow$Cond", "is", "(LPailRow;I)Z"⟩) (owner := "PailRow$Cond") 2 hts gu_X22_16_14 rfl rfl rfl (hG.2 _ q1522 rfl) ⟨by decide +kernel, by decide +kernel, by decide +kernel⟩ ⟨by dsimp only; omega, by dsimp only; omega⟩) (x_preV hG hR hW hS k11 rfl) rfl rfl hl.1 rfl (lv_room (Nat.le_of_ble_eq_true rfl)) dX22_is_18 ⟨Nat.zero_le _, Nat.zero_le _⟩) hS (fun H locs hR hS => ?_)
        refine lv_if_eq (tgt := 28) hx hb dX22_is_21 (by decide) (fun c13 => ?_) (fun c13 => ?_)
        · have hf := ite_t c13 hf
          refine lv_iconst (v := 0) hx hb dX22_is_28 li_0 ?_
          obtain rfl := some_i hf
          exact hend _ _ _ _ dX22_is_29 nz_0 hR hS
        · have hf := ite_f c13 hf
          exact hj24 r12.2.1 r12.2.2.1 r12.2.2.2.1 r12.2.2.2.2.1 r12.2.2.2.2.2.1 r12.2.2.2.2.2.2.1 r12.2.2.2.2.2.2.2.1 r12.2.2.2.2.2.2.2.2 0 0 hf _ _ _ hR hS (lv_sub hl [0] rfl)
      have hf := ite_f k11 hf
      by_cases k14 : r5.2.1 a10 = some (.inl 15)
      · have hf := ite_t k14 hf
        obtain ⟨r15, hr15, hf⟩ := bind_s hf
        refine x0_gor (vx_runU (As := [.ref a1, .int p2]) (rest := []) (b := a10) ⟨hx, hb, hml, hown, hts⟩ (ih_X19_is G r5.2.1 r5.2.2.1 r5.2.2.2.1 r5.2.2.2.2.1 r5.2.2.2.2.2.1 r5.2.2.2.2.2.2.1 r5.2.2.2.2.2.2.2.1 r5.2.2.2.2.2.2.2.2 a10 a1 p2 r15 hr15) (va_cwA (x := ⟨"PailRow$Cond", "is", "(LPailRow;I)Z"⟩) (owner := "PailRow$Cond") 2 hts gu_X22_16_15 rfl rfl rfl (hG.2 _ q1522 rfl) ⟨by decide +kernel, by decide +kernel, by decide +kernel⟩ ⟨by dsimp only; omega, by dsimp only; omega⟩) (x_preV hG hR hW hS k14 rfl) rfl rfl hl.1 rfl (lv_room (Nat.le_of_ble_eq_true rfl)) dX22_is_18 ⟨Nat.zero_le _, Nat.zero_le _⟩) hS (fun H locs hR hS => ?_)
        refine lv_if_eq (tgt := 28) hx hb dX22_is_21 (by decide) (fun c16 => ?_) (fun c16 => ?_)
        · have hf := ite_t c16 hf
          refine lv_iconst (v := 0) hx hb dX22_is_28 li_0 ?_
          obtain rfl := some_i hf
          exact hend _ _ _ _ dX22_is_29 nz_0 hR hS
        · have hf := ite_f c16 hf
          exact hj24 r15.2.1 r15.2.2.1 r15.2.2.2.1 r15.2.2.2.2.1 r15.2.2.2.2.2.1 r15.2.2.2.2.2.2.1 r15.2.2.2.2.2.2.2.1 r15.2.2.2.2.2.2.2.2 0 0 hf _ _ _ hR hS (lv_sub hl [0] rfl)
      have hf := ite_f k14 hf
      by_cases k17 : r5.2.1 a10 = some (.inl 16)
      · have hf := ite_t k17 hf
        obtain ⟨r18, hr18, hf⟩ := bind_s hf
        refine x0_gor (vx_runU (As := [.ref a1, .int p2]) (rest := []) (b := a10) ⟨hx, hb, hml, hown, hts⟩ (ih_X20_is G r5.2.1 r5.2.2.1 r5.2.2.2.1 r5.2.2.2.2.1 r5.2.2.2.2.2.1 r5.2.2.2.2.2.2.1 r5.2.2.2.2.2.2.2.1 r5.2.2.2.2.2.2.2.2 a10 a1 p2 r18 hr18) (va_cwA (x := ⟨"PailRow$Cond", "is", "(LPailRow;I)Z"⟩) (owner := "PailRow$Cond") 2 hts gu_X22_16_16 rfl rfl rfl (hG.2 _ q1522 rfl) ⟨by decide +kernel, by decide +kernel, by decide +kernel⟩ ⟨by dsimp only; omega, by dsimp only; omega⟩) (x_preV hG hR hW hS k17 rfl) rfl rfl hl.1 rfl (lv_room (Nat.le_of_ble_eq_true rfl)) dX22_is_18 ⟨Nat.zero_le _, Nat.zero_le _⟩) hS (fun H locs hR hS => ?_)
        refine lv_if_eq (tgt := 28) hx hb dX22_is_21 (by decide) (fun c19 => ?_) (fun c19 => ?_)
        · have hf := ite_t c19 hf
          refine lv_iconst (v := 0) hx hb dX22_is_28 li_0 ?_
          obtain rfl := some_i hf
          exact hend _ _ _ _ dX22_is_29 nz_0 hR hS
        · have hf := ite_f c19 hf
          exact hj24 r18.2.1 r18.2.2.1 r18.2.2.2.1 r18.2.2.2.2.1 r18.2.2.2.2.2.1 r18.2.2.2.2.2.2.1 r18.2.2.2.2.2.2.2.1 r18.2.2.2.2.2.2.2.2 0 0 hf _ _ _ hR hS (lv_sub hl [0] rfl)
      have hf := ite_f k17 hf
      by_cases k20 : r5.2.1 a10 = some (.inl 17)
      · have hf := ite_t k20 hf
        obtain ⟨r21, hr21, hf⟩ := bind_s hf
        refine x0_gor (vx_runU (As := [.ref a1, .int p2]) (rest := []) (b := a10) ⟨hx, hb, hml, hown, hts⟩ (ih_X21_is G r5.2.1 r5.2.2.1 r5.2.2.2.1 r5.2.2.2.2.1 r5.2.2.2.2.2.1 r5.2.2.2.2.2.2.1 r5.2.2.2.2.2.2.2.1 r5.2.2.2.2.2.2.2.2 a10 a1 p2 r21 hr21) (va_cwA (x := ⟨"PailRow$Cond", "is", "(LPailRow;I)Z"⟩) (owner := "PailRow$Cond") 2 hts gu_X22_16_17 rfl rfl rfl (hG.2 _ q1522 rfl) ⟨by decide +kernel, by decide +kernel, by decide +kernel⟩ ⟨by dsimp only; omega, by dsimp only; omega⟩) (x_preV hG hR hW hS k20 rfl) rfl rfl hl.1 rfl (lv_room (Nat.le_of_ble_eq_true rfl)) dX22_is_18 ⟨Nat.zero_le _, Nat.zero_le _⟩) hS (fun H locs hR hS => ?_)
        refine lv_if_eq (tgt := 28) hx hb dX22_is_21 (by decide) (fun c22 => ?_) (fun c22 => ?_)
        · have hf := ite_t c22 hf
          refine lv_iconst (v := 0) hx hb dX22_is_28 li_0 ?_
          obtain rfl := some_i hf
          exact hend _ _ _ _ dX22_is_29 nz_0 hR hS
        · have hf := ite_f c22 hf
          exact hj24 r21.2.1 r21.2.2.1 r21.2.2.2.1 r21.2.2.2.2.1 r21.2.2.2.2.2.1 r21.2.2.2.2.2.2.1 r21.2.2.2.2.2.2.2.1 r21.2.2.2.2.2.2.2.2 0 0 hf _ _ _ hR hS (lv_sub hl [0] rfl)
      have hf := ite_f k20 hf
      obtain ⟨k23, hf⟩ := gdp_some hf
      obtain ⟨r24, hr24, hf⟩ := bind_s hf
      refine x0_gor (vx_runU (As := [.ref a1, .int p2]) (rest := []) (b := a10) ⟨hx, hb, hml, hown, hts⟩ (ih_X22_is G r5.2.1 r5.2.2.1 r5.2.2.2.1 r5.2.2.2.2.1 r5.2.2.2.2.2.1 r5.2.2.2.2.2.2.1 r5.2.2.2.2.2.2.2.1 r5.2.2.2.2.2.2.2.2 a10 a1 p2 r24 hr24) (va_cwA (x := ⟨"PailRow$Cond", "is", "(LPailRow;I)Z"⟩) (owner := "PailRow$Cond") 2 hts gu_X22_16_18 rfl rfl rfl (hG.2 _ q1522 rfl) ⟨by decide +kernel, by decide +kernel, by decide +kernel⟩ ⟨by dsimp only; omega, by dsimp only; omega⟩) (x_preV hG hR hW hS k23 rfl) rfl rfl hl.1 rfl (lv_room (Nat.le_of_ble_eq_true rfl)) dX22_is_18 ⟨Nat.zero_le _, Nat.zero_le _⟩) hS (fun H locs hR hS => ?_)
      refine lv_if_eq (tgt := 28) hx hb dX22_is_21 (by decide) (fun c25 => ?_) (fun c25 => ?_)
      · have hf := ite_t c25 hf
        refine lv_iconst (v := 0) hx hb dX22_is_28 li_0 ?_
        obtain rfl := some_i hf
        exact hend _ _ _ _ dX22_is_29 nz_0 hR hS
      · have hf := ite_f c25 hf
        exact hj24 r24.2.1 r24.2.2.1 r24.2.2.2.1 r24.2.2.2.2.1 r24.2.2.2.2.2.1 r24.2.2.2.2.2.2.1 r24.2.2.2.2.2.2.2.1 r24.2.2.2.2.2.2.2.2 0 0 hf _ _ _ hR hS (lv_sub hl [0] rfl)
  have hf := ite_f k4 hf
  by_cases k26 : K a3 = some (.inl 15)
  · have hf := ite_t k26 hf
    obtain ⟨r27, hr27, hf⟩ := bind_s hf
    refine x0_gor (vx_runU (As := [.ref a1, .int p2]) (rest := []) (b := a3) ⟨hx, hb, hml, hown, hts⟩ (ih_X19_is G K I J X A B Q n a3 a1 p2 r27 hr27) (va_cwA (x := ⟨"PailRow$Cond", "is", "(LPailRow;I)Z"⟩) (owner := "PailRow$Cond") 2 hts gu_X22_16_15 rfl rfl rfl (hG.2 _ q1522 rfl) ⟨by decide +kernel, by decide +kernel, by decide +kernel⟩ ⟨by dsimp only; omega, by dsimp only; omega⟩) (x_preV hG hR hW hS k26 rfl) rfl rfl hl.1 rfl (lv_room (Nat.le_of_ble_eq_true rfl)) dX22_is_6 ⟨Nat.zero_le _, Nat.zero_le _⟩) hS (fun H locs hR hS => ?_)
    have hj24 : ∀ (j24_K : gK) (j24_I : gI) (j24_J : gJ) (j24_X : gX) (j24_A : gI) (j24_B : gJ) (j24_Q : gX) (j24_n : Nat) (j24_u : Nat) (j24_v : Nat), w22_is_j24 j24_K j24_I j24_J j24_X j24_A j24_B j24_Q j24_n j24_u j24_v = some out → ∀ (H : Heap) (locs : List Loc) (ls : Array Slot), RS G j24_K j24_I j24_J j24_X j24_A j24_B j24_Q H → va_S (gA G) s.heap H locs → lv_has ls 3 [(0, .ref o)] → W p l e ({ frames := (d + 1) + 1, cells := 0, slots := 0, locals := (d + 1) * 23 + 22 } : Room) s m args below meth c H locs j24_u j24_v Z (F0 m 24 ls []) := by
      intro j24_K j24_I j24_J j24_X j24_A j24_B j24_Q j24_n j24_u j24_v hf H locs ls hR hS hl
      unfold w22_is_j24 at hf
      refine lv_iconst (v := 1) hx hb dX22_is_24 li_1 ?_
      refine lv_goto (tgt := 29) hx hb dX22_is_25 (by decide) ?_
      obtain ⟨c28, hf⟩ := gdp_some hf
      refine W.widen c28.1 c28.2 ?_
      obtain rfl := some_i hf
      exact hend _ _ _ _ dX22_is_29 nz_1 hR hS
    refine lv_if_ne (tgt := 24) hx hb dX22_is_9 (by decide) (fun c29 => ?_) (fun c29 => ?_)
    · have hf := ite_f c29 hf
      exact hj24 r27.2.1 r27.2.2.1 r27.2.2.2.1 r27.2.2.2.2.1 r27.2.2.2.2.2.1 r27.2.2.2.2.2.2.1 r27.2.2.2.2.2.2.2.1 r27.2.2.2.2.2.2.2.2 0 0 hf _ _ _ hR hS (lv_sub hl [0] rfl)
    · have hf := ite_t c29 hf
      refine lv_aload_n hx hb dX22_is_12 rfl (lv_at hl 0 rfl) ?_
      obtain ⟨k30, hf⟩ := gdp_some hf
      obtain ⟨x31, ex31, hf⟩ := lt_some hf
      refine g_getx hx hb hts hown hG hR gFx_X22_13_18 k30 dX22_is_13 ?_
      rw [← ex31]
      refine lv_aload_n hx hb dX22_is_16 rfl (lv_at hl 1 rfl) ?_
      refine lv_iload_n hx hb dX22_is_17 rfl (lv_at hl 2 rfl) ?_
      obtain ⟨a32, ha32, hf⟩ := bind_s hf
      try rw [ha32]
      by_cases k33 : r27.2.1 a32 = some (.inl 14)
      · have hf := ite_t k33 hf
        obtain ⟨r34, hr34, hf⟩ := bind_s hf
        refine x0_gor (vx_runU (As := [.ref a1, .int p2]) (rest := []) (b := a32) ⟨hx, hb, hml, hown, hts⟩ (ih_X18_is G r27.2.1 r27.2.2.1 r27.2.2.2.1 r27.2.2.2.2.1 r27.2.2.2.2.2.1 r27.2.2.2.2.2.2.1 r27.2.2.2.2.2.2.2.1 r27.2.2.2.2.2.2.2.2 a32 a1 p2 r34 hr34) (va_cwA (x := ⟨"PailRow$Cond", "is", "(LPailRow;I)Z"⟩) (owner := "PailRow$Cond") 2 hts gu_X22_16_14 rfl rfl rfl (hG.2 _ q1522 rfl) ⟨by decide +kernel, by decide +kernel, by decide +kernel⟩ ⟨by dsimp only; omega, by dsimp only; omega⟩) (x_preV hG hR hW hS k33 rfl) rfl rfl hl.1 rfl (lv_room (Nat.le_of_ble_eq_true rfl)) dX22_is_18 ⟨Nat.zero_le _, Nat.zero_le _⟩) hS (fun H locs hR hS => ?_)
        refine lv_if_eq (tgt := 28) hx hb dX22_is_21 (by decide) (fun c35 => ?_) (fun c35 => ?_)
        · have hf := ite_t c35 hf
          refine lv_iconst (v := 0) hx hb dX22_is_28 li_0 ?_
          obtain rfl := some_i hf
          exact hend _ _ _ _ dX22_is_29 nz_0 hR hS
        · have hf := ite_f c35 hf
          exact hj24 r34.2.1 r34.2.2.1 r34.2.2.2.1 r34.2.2.2.2.1 r34.2.2.2.2.2.1 r34.2.2.2.2.2.2.1 r34.2.2.2.2.2.2.2.1 r34.2.2.2.2.2.2.2.2 0 0 hf _ _ _ hR hS (lv_sub hl [0] rfl)
      have hf := ite_f k33 hf
      by_cases k36 : r27.2.1 a32 = some (.inl 15)
      · have hf := ite_t k36 hf
        obtain ⟨r37, hr37, hf⟩ := bind_s hf
        refine x0_gor (vx_runU (As := [.ref a1, .int p2]) (rest := []) (b := a32) ⟨hx, hb, hml, hown, hts⟩ (ih_X19_is G r27.2.1 r27.2.2.1 r27.2.2.2.1 r27.2.2.2.2.1 r27.2.2.2.2.2.1 r27.2.2.2.2.2.2.1 r27.2.2.2.2.2.2.2.1 r27.2.2.2.2.2.2.2.2 a32 a1 p2 r37 hr37) (va_cwA (x := ⟨"PailRow$Cond", "is", "(LPailRow;I)Z"⟩) (owner := "PailRow$Cond") 2 hts gu_X22_16_15 rfl rfl rfl (hG.2 _ q1522 rfl) ⟨by decide +kernel, by decide +kernel, by decide +kernel⟩ ⟨by dsimp only; omega, by dsimp only; omega⟩) (x_preV hG hR hW hS k36 rfl) rfl rfl hl.1 rfl (lv_room (Nat.le_of_ble_eq_true rfl)) dX22_is_18 ⟨Nat.zero_le _, Nat.zero_le _⟩) hS (fun H locs hR hS => ?_)
        refine lv_if_eq (tgt := 28) hx hb dX22_is_21 (by decide) (fun c38 => ?_) (fun c38 => ?_)
        · have hf := ite_t c38 hf
          refine lv_iconst (v := 0) hx hb dX22_is_28 li_0 ?_
          obtain rfl := some_i hf
          exact hend _ _ _ _ dX22_is_29 nz_0 hR hS
        · have hf := ite_f c38 hf
          exact hj24 r37.2.1 r37.2.2.1 r37.2.2.2.1 r37.2.2.2.2.1 r37.2.2.2.2.2.1 r37.2.2.2.2.2.2.1 r37.2.2.2.2.2.2.2.1 r37.2.2.2.2.2.2.2.2 0 0 hf _ _ _ hR hS (lv_sub hl [0] rfl)
      have hf := ite_f k36 hf
      by_cases k39 : r27.2.1 a32 = some (.inl 16)
      · have hf := ite_t k39 hf
        obtain ⟨r40, hr40, hf⟩ := bind_s hf
        refine x0_gor (vx_runU (As := [.ref a1, .int p2]) (rest := []) (b := a32) ⟨hx, hb, hml, hown, hts⟩ (ih_X20_is G r27.2.1 r27.2.2.1 r27.2.2.2.1 r27.2.2.2.2.1 r27.2.2.2.2.2.1 r27.2.2.2.2.2.2.1 r27.2.2.2.2.2.2.2.1 r27.2.2.2.2.2.2.2.2 a32 a1 p2 r40 hr40) (va_cwA (x := ⟨"PailRow$Cond", "is", "(LPailRow;I)Z"⟩) (owner := "PailRow$Cond") 2 hts gu_X22_16_16 rfl rfl rfl (hG.2 _ q1522 rfl) ⟨by decide +kernel, by decide +kernel, by decide +kernel⟩ ⟨by dsimp only; omega, by dsimp only; omega⟩) (x_preV hG hR hW hS k39 rfl) rfl rfl hl.1 rfl (lv_room (Nat.le_of_ble_eq_true rfl)) dX22_is_18 ⟨Nat.zero_le _, Nat.zero_le _⟩) hS (fun H locs hR hS => ?_)
        refine lv_if_eq (tgt := 28) hx hb dX22_is_21 (by decide) (fun c41 => ?_) (fun c41 => ?_)
        · have hf := ite_t c41 hf
          refine lv_iconst (v := 0) hx hb dX22_is_28 li_0 ?_
          obtain rfl := some_i hf
          exact hend _ _ _ _ dX22_is_29 nz_0 hR hS
        · have hf := ite_f c41 hf
          exact hj24 r40.2.1 r40.2.2.1 r40.2.2.2.1 r40.2.2.2.2.1 r40.2.2.2.2.2.1 r40.2.2.2.2.2.2.1 r40.2.2.2.2.2.2.2.1 r40.2.2.2.2.2.2.2.2 0 0 hf _ _ _ hR hS (lv_sub hl [0] rfl)
      have hf := ite_f k39 hf
      by_cases k42 : r27.2.1 a32 = some (.inl 17)
      · have hf := ite_t k42 hf
        obtain ⟨r43, hr43, hf⟩ := bind_s hf
        refine x0_gor (vx_runU (As := [.ref a1, .int p2]) (rest := []) (b := a32) ⟨hx, hb, hml, hown, hts⟩ (ih_X21_is G r27.2.1 r27.2.2.1 r27.2.2.2.1 r27.2.2.2.2.1 r27.2.2.2.2.2.1 r27.2.2.2.2.2.2.1 r27.2.2.2.2.2.2.2.1 r27.2.2.2.2.2.2.2.2 a32 a1 p2 r43 hr43) (va_cwA (x := ⟨"PailRow$Cond", "is", "(LPailRow;I)Z"⟩) (owner := "PailRow$Cond") 2 hts gu_X22_16_17 rfl rfl rfl (hG.2 _ q1522 rfl) ⟨by decide +kernel, by decide +kernel, by decide +kernel⟩ ⟨by dsimp only; omega, by dsimp only; omega⟩) (x_preV hG hR hW hS k42 rfl) rfl rfl hl.1 rfl (lv_room (Nat.le_of_ble_eq_true rfl)) dX22_is_18 ⟨Nat.zero_le _, Nat.zero_le _⟩) hS (fun H locs hR hS => ?_)
        refine lv_if_eq (tgt := 28) hx hb dX22_is_21 (by decide) (fun c44 => ?_) (fun c44 => ?_)
        · have hf := ite_t c44 hf
          refine lv_iconst (v := 0) hx hb dX22_is_28 li_0 ?_
          obtain rfl := some_i hf
          exact hend _ _ _ _ dX22_is_29 nz_0 hR hS
        · have hf := ite_f c44 hf
          exact hj24 r43.2.1 r43.2.2.1 r43.2.2.2.1 r43.2.2.2.2.1 r43.2.2.2.2.2.1 r43.2.2.2.2.2.2.1 r43.2.2.2.2.2.2.2.1 r43.2.2.2.2.2.2.2.2 0 0 hf _ _ _ hR hS (lv_sub hl [0] rfl)
      have hf := ite_f k42 hf
      obtain ⟨k45, hf⟩ := gdp_some hf
      obtain ⟨r46, hr46, hf⟩ := bind_s hf
      refine x0_gor (vx_runU (As := [.ref a1, .int p2]) (rest := []) (b := a32) ⟨hx, hb, hml, hown, hts⟩ (ih_X22_is G r27.2.1 r27.2.2.1 r27.2.2.2.1 r27.2.2.2.2.1 r27.2.2.2.2.2.1 r27.2.2.2.2.2.2.1 r27.2.2.2.2.2.2.2.1 r27.2.2.2.2.2.2.2.2 a32 a1 p2 r46 hr46) (va_cwA (x := ⟨"PailRow$Cond", "is", "(LPailRow;I)Z"⟩) (owner := "PailRow$Cond") 2 hts gu_X22_16_18 rfl rfl rfl (hG.2 _ q1522 rfl) ⟨by decide +kernel, by decide +kernel, by decide +kernel⟩ ⟨by dsimp only; omega, by dsimp only; omega⟩) (x_preV hG hR hW hS k45 rfl) rfl rfl hl.1 rfl (lv_room (Nat.le_of_ble_eq_true rfl)) dX22_is_18 ⟨Nat.zero_le _, Nat.zero_le _⟩) hS (fun H locs hR hS => ?_)
      refine lv_if_eq (tgt := 28) hx hb dX22_is_21 (by decide) (fun c47 => ?_) (fun c47 => ?_)
      · have hf := ite_t c47 hf
        refine lv_iconst (v := 0) hx hb dX22_is_28 li_0 ?_
        obtain rfl := some_i hf
        exact hend _ _ _ _ dX22_is_29 nz_0 hR hS
      · have hf := ite_f c47 hf
        exact hj24 r46.2.1 r46.2.2.1 r46.2.2.2.1 r46.2.2.2.2.1 r46.2.2.2.2.2.1 r46.2.2.2.2.2.2.1 r46.2.2.2.2.2.2.2.1 r46.2.2.2.2.2.2.2.2 0 0 hf _ _ _ hR hS (lv_sub hl [0] rfl)
  have hf := ite_f k26 hf
  by_cases k48 : K a3 = some (.inl 16)
  · have hf := ite_t k48 hf
    obtain ⟨r49, hr49, hf⟩ := bind_s hf
    refine x0_gor (vx_runU (As := [.ref a1, .int p2]) (rest := []) (b := a3) ⟨hx, hb, hml, hown, hts⟩ (ih_X20_is G K I J X A B Q n a3 a1 p2 r49 hr49) (va_cwA (x := ⟨"PailRow$Cond", "is", "(LPailRow;I)Z"⟩) (owner := "PailRow$Cond") 2 hts gu_X22_16_16 rfl rfl rfl (hG.2 _ q1522 rfl) ⟨by decide +kernel, by decide +kernel, by decide +kernel⟩ ⟨by dsimp only; omega, by dsimp only; omega⟩) (x_preV hG hR hW hS k48 rfl) rfl rfl hl.1 rfl (lv_room (Nat.le_of_ble_eq_true rfl)) dX22_is_6 ⟨Nat.zero_le _, Nat.zero_le _⟩) hS (fun H locs hR hS => ?_)
    have hj24 : ∀ (j24_K : gK) (j24_I : gI) (j24_J : gJ) (j24_X : gX) (j24_A : gI) (j24_B : gJ) (j24_Q : gX) (j24_n : Nat) (j24_u : Nat) (j24_v : Nat), w22_is_j24 j24_K j24_I j24_J j24_X j24_A j24_B j24_Q j24_n j24_u j24_v = some out → ∀ (H : Heap) (locs : List Loc) (ls : Array Slot), RS G j24_K j24_I j24_J j24_X j24_A j24_B j24_Q H → va_S (gA G) s.heap H locs → lv_has ls 3 [(0, .ref o)] → W p l e ({ frames := (d + 1) + 1, cells := 0, slots := 0, locals := (d + 1) * 23 + 22 } : Room) s m args below meth c H locs j24_u j24_v Z (F0 m 24 ls []) := by
      intro j24_K j24_I j24_J j24_X j24_A j24_B j24_Q j24_n j24_u j24_v hf H locs ls hR hS hl
      unfold w22_is_j24 at hf
      refine lv_iconst (v := 1) hx hb dX22_is_24 li_1 ?_
      refine lv_goto (tgt := 29) hx hb dX22_is_25 (by decide) ?_
      obtain ⟨c50, hf⟩ := gdp_some hf
      refine W.widen c50.1 c50.2 ?_
      obtain rfl := some_i hf
      exact hend _ _ _ _ dX22_is_29 nz_1 hR hS
    refine lv_if_ne (tgt := 24) hx hb dX22_is_9 (by decide) (fun c51 => ?_) (fun c51 => ?_)
    · have hf := ite_f c51 hf
      exact hj24 r49.2.1 r49.2.2.1 r49.2.2.2.1 r49.2.2.2.2.1 r49.2.2.2.2.2.1 r49.2.2.2.2.2.2.1 r49.2.2.2.2.2.2.2.1 r49.2.2.2.2.2.2.2.2 0 0 hf _ _ _ hR hS (lv_sub hl [0] rfl)
    · have hf := ite_t c51 hf
      refine lv_aload_n hx hb dX22_is_12 rfl (lv_at hl 0 rfl) ?_
      obtain ⟨k52, hf⟩ := gdp_some hf
      obtain ⟨x53, ex53, hf⟩ := lt_some hf
      refine g_getx hx hb hts hown hG hR gFx_X22_13_18 k52 dX22_is_13 ?_
      rw [← ex53]
      refine lv_aload_n hx hb dX22_is_16 rfl (lv_at hl 1 rfl) ?_
      refine lv_iload_n hx hb dX22_is_17 rfl (lv_at hl 2 rfl) ?_
      obtain ⟨a54, ha54, hf⟩ := bind_s hf
      try rw [ha54]
      by_cases k55 : r49.2.1 a54 = some (.inl 14)
      · have hf := ite_t k55 hf
        obtain ⟨r56, hr56, hf⟩ := bind_s hf
        refine x0_gor (vx_runU (As := [.ref a1, .int p2]) (rest := []) (b := a54) ⟨hx, hb, hml, hown, hts⟩ (ih_X18_is G r49.2.1 r49.2.2.1 r49.2.2.2.1 r49.2.2.2.2.1 r49.2.2.2.2.2.1 r49.2.2.2.2.2.2.1 r49.2.2.2.2.2.2.2.1 r49.2.2.2.2.2.2.2.2 a54 a1 p2 r56 hr56) (va_cwA (x := ⟨"PailRow$Cond", "is", "(LPailRow;I)Z"⟩) (owner := "PailRow$Cond") 2 hts gu_X22_16_14 rfl rfl rfl (hG.2 _ q1522 rfl) ⟨by decide +kernel, by decide +kernel, by decide +kernel⟩ ⟨by dsimp only; omega, by dsimp only; omega⟩) (x_preV hG hR hW hS k55 rfl) rfl rfl hl.1 rfl (lv_room (Nat.le_of_ble_eq_true rfl)) dX22_is_18 ⟨Nat.zero_le _, Nat.zero_le _⟩) hS (fun H locs hR hS => ?_)
        refine lv_if_eq (tgt := 28) hx hb dX22_is_21 (by decide) (fun c57 => ?_) (fun c57 => ?_)
        · have hf := ite_t c57 hf
          refine lv_iconst (v := 0) hx hb dX22_is_28 li_0 ?_
          obtain rfl := some_i hf
          exact hend _ _ _ _ dX22_is_29 nz_0 hR hS
        · have hf := ite_f c57 hf
          exact hj24 r56.2.1 r56.2.2.1 r56.2.2.2.1 r56.2.2.2.2.1 r56.2.2.2.2.2.1 r56.2.2.2.2.2.2.1 r56.2.2.2.2.2.2.2.1 r56.2.2.2.2.2.2.2.2 0 0 hf _ _ _ hR hS (lv_sub hl [0] rfl)
      have hf := ite_f k55 hf
      by_cases k58 : r49.2.1 a54 = some (.inl 15)
      · have hf := ite_t k58 hf
        obtain ⟨r59, hr59, hf⟩ := bind_s hf
        refine x0_gor (vx_runU (As := [.ref a1, .int p2]) (rest := []) (b := a54) ⟨hx, hb, hml, hown, hts⟩ (ih_X19_is G r49.2.1 r49.2.2.1 r49.2.2.2.1 r49.2.2.2.2.1 r49.2.2.2.2.2.1 r49.2.2.2.2.2.2.1 r49.2.2.2.2.2.2.2.1 r49.2.2.2.2.2.2.2.2 a54 a1 p2 r59 hr59) (va_cwA (x := ⟨"PailRow$Cond", "is", "(LPailRow;I)Z"⟩) (owner := "PailRow$Cond") 2 hts gu_X22_16_15 rfl rfl rfl (hG.2 _ q1522 rfl) ⟨by decide +kernel, by decide +kernel, by decide +kernel⟩ ⟨by dsimp only; omega, by dsimp only; omega⟩) (x_preV hG hR hW hS k58 rfl) rfl rfl hl.1 rfl (lv_room (Nat.le_of_ble_eq_true rfl)) dX22_is_18 ⟨Nat.zero_le _, Nat.zero_le _⟩) hS (fun H locs hR hS => ?_)
        refine lv_if_eq (tgt := 28) hx hb dX22_is_21 (by decide) (fun c60 => ?_) (fun c60 => ?_)
        · have hf := ite_t c60 hf
          refine lv_iconst (v := 0) hx hb dX22_is_28 li_0 ?_
          obtain rfl := some_i hf
          exact hend _ _ _ _ dX22_is_29 nz_0 hR hS
        · have hf := ite_f c60 hf
          exact hj24 r59.2.1 r59.2.2.1 r59.2.2.2.1 r59.2.2.2.2.1 r59.2.2.2.2.2.1 r59.2.2.2.2.2.2.1 r59.2.2.2.2.2.2.2.1 r59.2.2.2.2.2.2.2.2 0 0 hf _ _ _ hR hS (lv_sub hl [0] rfl)
      have hf := ite_f k58 hf
      by_cases k61 : r49.2.1 a54 = some (.inl 16)
      · have hf := ite_t k61 hf
        obtain ⟨r62, hr62, hf⟩ := bind_s hf
        refine x0_gor (vx_runU (As := [.ref a1, .int p2]) (rest := []) (b := a54) ⟨hx, hb, hml, hown, hts⟩ (ih_X20_is G r49.2.1 r49.2.2.1 r49.2.2.2.1 r49.2.2.2.2.1 r49.2.2.2.2.2.1 r49.2.2.2.2.2.2.1 r49.2.2.2.2.2.2.2.1 r49.2.2.2.2.2.2.2.2 a54 a1 p2 r62 hr62) (va_cwA (x := ⟨"PailRow$Cond", "is", "(LPailRow;I)Z"⟩) (owner := "PailRow$Cond") 2 hts gu_X22_16_16 rfl rfl rfl (hG.2 _ q1522 rfl) ⟨by decide +kernel, by decide +kernel, by decide +kernel⟩ ⟨by dsimp only; omega, by dsimp only; omega⟩) (x_preV hG hR hW hS k61 rfl) rfl rfl hl.1 rfl (lv_room (Nat.le_of_ble_eq_true rfl)) dX22_is_18 ⟨Nat.zero_le _, Nat.zero_le _⟩) hS (fun H locs hR hS => ?_)
        refine lv_if_eq (tgt := 28) hx hb dX22_is_21 (by decide) (fun c63 => ?_) (fun c63 => ?_)
        · have hf := ite_t c63 hf
          refine lv_iconst (v := 0) hx hb dX22_is_28 li_0 ?_
          obtain rfl := some_i hf
          exact hend _ _ _ _ dX22_is_29 nz_0 hR hS
        · have hf := ite_f c63 hf
          exact hj24 r62.2.1 r62.2.2.1 r62.2.2.2.1 r62.2.2.2.2.1 r62.2.2.2.2.2.1 r62.2.2.2.2.2.2.1 r62.2.2.2.2.2.2.2.1 r62.2.2.2.2.2.2.2.2 0 0 hf _ _ _ hR hS (lv_sub hl [0] rfl)
      have hf := ite_f k61 hf
      by_cases k64 : r49.2.1 a54 = some (.inl 17)
      · have hf := ite_t k64 hf
        obtain ⟨r65, hr65, hf⟩ := bind_s hf
        refine x0_gor (vx_runU (As := [.ref a1, .int p2]) (rest := []) (b := a54) ⟨hx, hb, hml, hown, hts⟩ (ih_X21_is G r49.2.1 r49.2.2.1 r49.2.2.2.1 r49.2.2.2.2.1 r49.2.2.2.2.2.1 r49.2.2.2.2.2.2.1 r49.2.2.2.2.2.2.2.1 r49.2.2.2.2.2.2.2.2 a54 a1 p2 r65 hr65) (va_cwA (x := ⟨"PailRow$Cond", "is", "(LPailRow;I)Z"⟩) (owner := "PailRow$Cond") 2 hts gu_X22_16_17 rfl rfl rfl (hG.2 _ q1522 rfl) ⟨by decide +kernel, by decide +kernel, by decide +kernel⟩ ⟨by dsimp only; omega, by dsimp only; omega⟩) (x_preV hG hR hW hS k64 rfl) rfl rfl hl.1 rfl (lv_room (Nat.le_of_ble_eq_true rfl)) dX22_is_18 ⟨Nat.zero_le _, Nat.zero_le _⟩) hS (fun H locs hR hS => ?_)
        refine lv_if_eq (tgt := 28) hx hb dX22_is_21 (by decide) (fun c66 => ?_) (fun c66 => ?_)
        · have hf := ite_t c66 hf
          refine lv_iconst (v := 0) hx hb dX22_is_28 li_0 ?_
          obtain rfl := some_i hf
          exact hend _ _ _ _ dX22_is_29 nz_0 hR hS
        · have hf := ite_f c66 hf
          exact hj24 r65.2.1 r65.2.2.1 r65.2.2.2.1 r65.2.2.2.2.1 r65.2.2.2.2.2.1 r65.2.2.2.2.2.2.1 r65.2.2.2.2.2.2.2.1 r65.2.2.2.2.2.2.2.2 0 0 hf _ _ _ hR hS (lv_sub hl [0] rfl)
      have hf := ite_f k64 hf
      obtain ⟨k67, hf⟩ := gdp_some hf
      obtain ⟨r68, hr68, hf⟩ := bind_s hf
      refine x0_gor (vx_runU (As := [.ref a1, .int p2]) (rest := []) (b := a54) ⟨hx, hb, hml, hown, hts⟩ (ih_X22_is G r49.2.1 r49.2.2.1 r49.2.2.2.1 r49.2.2.2.2.1 r49.2.2.2.2.2.1 r49.2.2.2.2.2.2.1 r49.2.2.2.2.2.2.2.1 r49.2.2.2.2.2.2.2.2 a54 a1 p2 r68 hr68) (va_cwA (x := ⟨"PailRow$Cond", "is", "(LPailRow;I)Z"⟩) (owner := "PailRow$Cond") 2 hts gu_X22_16_18 rfl rfl rfl (hG.2 _ q1522 rfl) ⟨by decide +kernel, by decide +kernel, by decide +kernel⟩ ⟨by dsimp only; omega, by dsimp only; omega⟩) (x_preV hG hR hW hS k67 rfl) rfl rfl hl.1 rfl (lv_room (Nat.le_of_ble_eq_true rfl)) dX22_is_18 ⟨Nat.zero_le _, Nat.zero_le _⟩) hS (fun H locs hR hS => ?_)
      refine lv_if_eq (tgt := 28) hx hb dX22_is_21 (by decide) (fun c69 => ?_) (fun c69 => ?_)
      · have hf := ite_t c69 hf
        refine lv_iconst (v := 0) hx hb dX22_is_28 li_0 ?_
        obtain rfl := some_i hf
        exact hend _ _ _ _ dX22_is_29 nz_0 hR hS
      · have hf := ite_f c69 hf
        exact hj24 r68.2.1 r68.2.2.1 r68.2.2.2.1 r68.2.2.2.2.1 r68.2.2.2.2.2.1 r68.2.2.2.2.2.2.1 r68.2.2.2.2.2.2.2.1 r68.2.2.2.2.2.2.2.2 0 0 hf _ _ _ hR hS (lv_sub hl [0] rfl)
  have hf := ite_f k48 hf
  by_cases k70 : K a3 = some (.inl 17)
  · have hf := ite_t k70 hf
    obtain ⟨r71, hr71, hf⟩ := bind_s hf
    refine x0_gor (vx_runU (As := [.ref a1, .int p2]) (rest := []) (b := a3) ⟨hx, hb, hml, hown, hts⟩ (ih_X21_is G K I J X A B Q n a3 a1 p2 r71 hr71) (va_cwA (x := ⟨"PailRow$Cond", "is", "(LPailRow;I)Z"⟩) (owner := "PailRow$Cond") 2 hts gu_X22_16_17 rfl rfl rfl (hG.2 _ q1522 rfl) ⟨by decide +kernel, by decide +kernel, by decide +kernel⟩ ⟨by dsimp only; omega, by dsimp only; omega⟩) (x_preV hG hR hW hS k70 rfl) rfl rfl hl.1 rfl (lv_room (Nat.le_of_ble_eq_true rfl)) dX22_is_6 ⟨Nat.zero_le _, Nat.zero_le _⟩) hS (fun H locs hR hS => ?_)
    have hj24 : ∀ (j24_K : gK) (j24_I : gI) (j24_J : gJ) (j24_X : gX) (j24_A : gI) (j24_B : gJ) (j24_Q : gX) (j24_n : Nat) (j24_u : Nat) (j24_v : Nat), w22_is_j24 j24_K j24_I j24_J j24_X j24_A j24_B j24_Q j24_n j24_u j24_v = some out → ∀ (H : Heap) (locs : List Loc) (ls : Array Slot), RS G j24_K j24_I j24_J j24_X j24_A j24_B j24_Q H → va_S (gA G) s.heap H locs → lv_has ls 3 [(0, .ref o)] → W p l e ({ frames := (d + 1) + 1, cells := 0, slots := 0, locals := (d + 1) * 23 + 22 } : Room) s m args below meth c H locs j24_u j24_v Z (F0 m 24 ls []) := by
      intro j24_K j24_I j24_J j24_X j24_A j24_B j24_Q j24_n j24_u j24_v hf H locs ls hR hS hl
      unfold w22_is_j24 at hf
      refine lv_iconst (v := 1) hx hb dX22_is_24 li_1 ?_
      refine lv_goto (tgt := 29) hx hb dX22_is_25 (by decide) ?_
      obtain ⟨c72, hf⟩ := gdp_some hf
      refine W.widen c72.1 c72.2 ?_
      obtain rfl := some_i hf
      exact hend _ _ _ _ dX22_is_29 nz_1 hR hS
    refine lv_if_ne (tgt := 24) hx hb dX22_is_9 (by decide) (fun c73 => ?_) (fun c73 => ?_)
    · have hf := ite_f c73 hf
      exact hj24 r71.2.1 r71.2.2.1 r71.2.2.2.1 r71.2.2.2.2.1 r71.2.2.2.2.2.1 r71.2.2.2.2.2.2.1 r71.2.2.2.2.2.2.2.1 r71.2.2.2.2.2.2.2.2 0 0 hf _ _ _ hR hS (lv_sub hl [0] rfl)
    · have hf := ite_t c73 hf
      refine lv_aload_n hx hb dX22_is_12 rfl (lv_at hl 0 rfl) ?_
      obtain ⟨k74, hf⟩ := gdp_some hf
      obtain ⟨x75, ex75, hf⟩ := lt_some hf
      refine g_getx hx hb hts hown hG hR gFx_X22_13_18 k74 dX22_is_13 ?_
      rw [← ex75]
      refine lv_aload_n hx hb dX22_is_16 rfl (lv_at hl 1 rfl) ?_
      refine lv_iload_n hx hb dX22_is_17 rfl (lv_at hl 2 rfl) ?_
      obtain ⟨a76, ha76, hf⟩ := bind_s hf
      try rw [ha76]
      by_cases k77 : r71.2.1 a76 = some (.inl 14)
      · have hf := ite_t k77 hf
        obtain ⟨r78, hr78, hf⟩ := bind_s hf
        refine x0_gor (vx_runU (As := [.ref a1, .int p2]) (rest := []) (b := a76) ⟨hx, hb, hml, hown, hts⟩ (ih_X18_is G r71.2.1 r71.2.2.1 r71.2.2.2.1 r71.2.2.2.2.1 r71.2.2.2.2.2.1 r71.2.2.2.2.2.2.1 r71.2.2.2.2.2.2.2.1 r71.2.2.2.2.2.2.2.2 a76 a1 p2 r78 hr78) (va_cwA (x := ⟨"PailRow$Cond", "is", "(LPailRow;I)Z"⟩) (owner := "PailRow$Cond") 2 hts gu_X22_16_14 rfl rfl rfl (hG.2 _ q1522 rfl) ⟨by decide +kernel, by decide +kernel, by decide +kernel⟩ ⟨by dsimp only; omega, by dsimp only; omega⟩) (x_preV hG hR hW hS k77 rfl) rfl rfl hl.1 rfl (lv_room (Nat.le_of_ble_eq_true rfl)) dX22_is_18 ⟨Nat.zero_le _, Nat.zero_le _⟩) hS (fun H locs hR hS => ?_)
        refine lv_if_eq (tgt := 28) hx hb dX22_is_21 (by decide) (fun c79 => ?_) (fun c79 => ?_)
        · have hf := ite_t c79 hf
          refine lv_iconst (v := 0) hx hb dX22_is_28 li_0 ?_
          obtain rfl := some_i hf
          exact hend _ _ _ _ dX22_is_29 nz_0 hR hS
        · have hf := ite_f c79 hf
          exact hj24 r78.2.1 r78.2.2.1 r78.2.2.2.1 r78.2.2.2.2.1 r78.2.2.2.2.2.1 r78.2.2.2.2.2.2.1 r78.2.2.2.2.2.2.2.1 r78.2.2.2.2.2.2.2.2 0 0 hf _ _ _ hR hS (lv_sub hl [0] rfl)
      have hf := ite_f k77 hf
      by_cases k80 : r71.2.1 a76 = some (.inl 15)
      · have hf := ite_t k80 hf
        obtain ⟨r81, hr81, hf⟩ := bind_s hf
        refine x0_gor (vx_runU (As := [.ref a1, .int p2]) (rest := []) (b := a76) ⟨hx, hb, hml, hown, hts⟩ (ih_X19_is G r71.2.1 r71.2.2.1 r71.2.2.2.1 r71.2.2.2.2.1 r71.2.2.2.2.2.1 r71.2.2.2.2.2.2.1 r71.2.2.2.2.2.2.2.1 r71.2.2.2.2.2.2.2.2 a76 a1 p2 r81 hr81) (va_cwA (x := ⟨"PailRow$Cond", "is", "(LPailRow;I)Z"⟩) (owner := "PailRow$Cond") 2 hts gu_X22_16_15 rfl rfl rfl (hG.2 _ q1522 rfl) ⟨by decide +kernel, by decide +kernel, by decide +kernel⟩ ⟨by dsimp only; omega, by dsimp only; omega⟩) (x_preV hG hR hW hS k80 rfl) rfl rfl hl.1 rfl (lv_room (Nat.le_of_ble_eq_true rfl)) dX22_is_18 ⟨Nat.zero_le _, Nat.zero_le _⟩) hS (fun H locs hR hS => ?_)
        refine lv_if_eq (tgt := 28) hx hb dX22_is_21 (by decide) (fun c82 => ?_) (fun c82 => ?_)
        · have hf := ite_t c82 hf
          refine lv_iconst (v := 0) hx hb dX22_is_28 li_0 ?_
          obtain rfl := some_i hf
          exact hend _ _ _ _ dX22_is_29 nz_0 hR hS
        · have hf := ite_f c82 hf
          exact hj24 r81.2.1 r81.2.2.1 r81.2.2.2.1 r81.2.2.2.2.1 r81.2.2.2.2.2.1 r81.2.2.2.2.2.2.1 r81.2.2.2.2.2.2.2.1 r81.2.2.2.2.2.2.2.2 0 0 hf _ _ _ hR hS (lv_sub hl [0] rfl)
      have hf := ite_f k80 hf
      by_cases k83 : r71.2.1 a76 = some (.inl 16)
      · have hf := ite_t k83 hf
        obtain ⟨r84, hr84, hf⟩ := bind_s hf
        refine x0_gor (vx_runU (As := [.ref a1, .int p2]) (rest := []) (b := a76) ⟨hx, hb, hml, hown, hts⟩ (ih_X20_is G r71.2.1 r71.2.2.1 r71.2.2.2.1 r71.2.2.2.2.1 r71.2.2.2.2.2.1 r71.2.2.2.2.2.2.1 r71.2.2.2.2.2.2.2.1 r71.2.2.2.2.2.2.2.2 a76 a1 p2 r84 hr84) (va_cwA (x := ⟨"PailRow$Cond", "is", "(LPailRow;I)Z"⟩) (owner := "PailRow$Cond") 2 hts gu_X22_16_16 rfl rfl rfl (hG.2 _ q1522 rfl) ⟨by decide +kernel, by decide +kernel, by decide +kernel⟩ ⟨by dsimp only; omega, by dsimp only; omega⟩) (x_preV hG hR hW hS k83 rfl) rfl rfl hl.1 rfl (lv_room (Nat.le_of_ble_eq_true rfl)) dX22_is_18 ⟨Nat.zero_le _, Nat.zero_le _⟩) hS (fun H locs hR hS => ?_)
        refine lv_if_eq (tgt := 28) hx hb dX22_is_21 (by decide) (fun c85 => ?_) (fun c85 => ?_)
        · have hf := ite_t c85 hf
          refine lv_iconst (v := 0) hx hb dX22_is_28 li_0 ?_
          obtain rfl := some_i hf
          exact hend _ _ _ _ dX22_is_29 nz_0 hR hS
        · have hf := ite_f c85 hf
          exact hj24 r84.2.1 r84.2.2.1 r84.2.2.2.1 r84.2.2.2.2.1 r84.2.2.2.2.2.1 r84.2.2.2.2.2.2.1 r84.2.2.2.2.2.2.2.1 r84.2.2.2.2.2.2.2.2 0 0 hf _ _ _ hR hS (lv_sub hl [0] rfl)
      have hf := ite_f k83 hf
      by_cases k86 : r71.2.1 a76 = some (.inl 17)
      · have hf := ite_t k86 hf
        obtain ⟨r87, hr87, hf⟩ := bind_s hf
        refine x0_gor (vx_runU (As := [.ref a1, .int p2]) (rest := []) (b := a76) ⟨hx, hb, hml, hown, hts⟩ (ih_X21_is G r71.2.1 r71.2.2.1 r71.2.2.2.1 r71.2.2.2.2.1 r71.2.2.2.2.2.1 r71.2.2.2.2.2.2.1 r71.2.2.2.2.2.2.2.1 r71.2.2.2.2.2.2.2.2 a76 a1 p2 r87 hr87) (va_cwA (x := ⟨"PailRow$Cond", "is", "(LPailRow;I)Z"⟩) (owner := "PailRow$Cond") 2 hts gu_X22_16_17 rfl rfl rfl (hG.2 _ q1522 rfl) ⟨by decide +kernel, by decide +kernel, by decide +kernel⟩ ⟨by dsimp only; omega, by dsimp only; omega⟩) (x_preV hG hR hW hS k86 rfl) rfl rfl hl.1 rfl (lv_room (Nat.le_of_ble_eq_true rfl)) dX22_is_18 ⟨Nat.zero_le _, Nat.zero_le _⟩) hS (fun H locs hR hS => ?_)
        refine lv_if_eq (tgt := 28) hx hb dX22_is_21 (by decide) (fun c88 => ?_) (fun c88 => ?_)
        · have hf := ite_t c88 hf
          refine lv_iconst (v := 0) hx hb dX22_is_28 li_0 ?_
          obtain rfl := some_i hf
          exact hend _ _ _ _ dX22_is_29 nz_0 hR hS
        · have hf := ite_f c88 hf
          exact hj24 r87.2.1 r87.2.2.1 r87.2.2.2.1 r87.2.2.2.2.1 r87.2.2.2.2.2.1 r87.2.2.2.2.2.2.1 r87.2.2.2.2.2.2.2.1 r87.2.2.2.2.2.2.2.2 0 0 hf _ _ _ hR hS (lv_sub hl [0] rfl)
      have hf := ite_f k86 hf
      obtain ⟨k89, hf⟩ := gdp_some hf
      obtain ⟨r90, hr90, hf⟩ := bind_s hf
      refine x0_gor (vx_runU (As := [.ref a1, .int p2]) (rest := []) (b := a76) ⟨hx, hb, hml, hown, hts⟩ (ih_X22_is G r71.2.1 r71.2.2.1 r71.2.2.2.1 r71.2.2.2.2.1 r71.2.2.2.2.2.1 r71.2.2.2.2.2.2.1 r71.2.2.2.2.2.2.2.1 r71.2.2.2.2.2.2.2.2 a76 a1 p2 r90 hr90) (va_cwA (x := ⟨"PailRow$Cond", "is", "(LPailRow;I)Z"⟩) (owner := "PailRow$Cond") 2 hts gu_X22_16_18 rfl rfl rfl (hG.2 _ q1522 rfl) ⟨by decide +kernel, by decide +kernel, by decide +kernel⟩ ⟨by dsimp only; omega, by dsimp only; omega⟩) (x_preV hG hR hW hS k89 rfl) rfl rfl hl.1 rfl (lv_room (Nat.le_of_ble_eq_true rfl)) dX22_is_18 ⟨Nat.zero_le _, Nat.zero_le _⟩) hS (fun H locs hR hS => ?_)
      refine lv_if_eq (tgt := 28) hx hb dX22_is_21 (by decide) (fun c91 => ?_) (fun c91 => ?_)
      · have hf := ite_t c91 hf
        refine lv_iconst (v := 0) hx hb dX22_is_28 li_0 ?_
        obtain rfl := some_i hf
        exact hend _ _ _ _ dX22_is_29 nz_0 hR hS
      · have hf := ite_f c91 hf
        exact hj24 r90.2.1 r90.2.2.1 r90.2.2.2.1 r90.2.2.2.2.1 r90.2.2.2.2.2.1 r90.2.2.2.2.2.2.1 r90.2.2.2.2.2.2.2.1 r90.2.2.2.2.2.2.2.2 0 0 hf _ _ _ hR hS (lv_sub hl [0] rfl)
  have hf := ite_f k70 hf
  obtain ⟨k92, hf⟩ := gdp_some hf
  obtain ⟨r93, hr93, hf⟩ := bind_s hf
  refine x0_gor (vx_runU (As := [.ref a1, .int p2]) (rest := []) (b := a3) ⟨hx, hb, hml, hown, hts⟩ (ih_X22_is G K I J X A B Q n a3 a1 p2 r93 hr93) (va_cwA (x := ⟨"PailRow$Cond", "is", "(LPailRow;I)Z"⟩) (owner := "PailRow$Cond") 2 hts gu_X22_16_18 rfl rfl rfl (hG.2 _ q1522 rfl) ⟨by decide +kernel, by decide +kernel, by decide +kernel⟩ ⟨by dsimp only; omega, by dsimp only; omega⟩) (x_preV hG hR hW hS k92 rfl) rfl rfl hl.1 rfl (lv_room (Nat.le_of_ble_eq_true rfl)) dX22_is_6 ⟨Nat.zero_le _, Nat.zero_le _⟩) hS (fun H locs hR hS => ?_)
  have hj24 : ∀ (j24_K : gK) (j24_I : gI) (j24_J : gJ) (j24_X : gX) (j24_A : gI) (j24_B : gJ) (j24_Q : gX) (j24_n : Nat) (j24_u : Nat) (j24_v : Nat), w22_is_j24 j24_K j24_I j24_J j24_X j24_A j24_B j24_Q j24_n j24_u j24_v = some out → ∀ (H : Heap) (locs : List Loc) (ls : Array Slot), RS G j24_K j24_I j24_J j24_X j24_A j24_B j24_Q H → va_S (gA G) s.heap H locs → lv_has ls 3 [(0, .ref o)] → W p l e ({ frames := (d + 1) + 1, cells := 0, slots := 0, locals := (d + 1) * 23 + 22 } : Room) s m args below meth c H locs j24_u j24_v Z (F0 m 24 ls []) := by
    intro j24_K j24_I j24_J j24_X j24_A j24_B j24_Q j24_n j24_u j24_v hf H locs ls hR hS hl
    unfold w22_is_j24 at hf
    refine lv_iconst (v := 1) hx hb dX22_is_24 li_1 ?_
    refine lv_goto (tgt := 29) hx hb dX22_is_25 (by decide) ?_
    obtain ⟨c94, hf⟩ := gdp_some hf
    refine W.widen c94.1 c94.2 ?_
    obtain rfl := some_i hf
    exact hend _ _ _ _ dX22_is_29 nz_1 hR hS
  refine lv_if_ne (tgt := 24) hx hb dX22_is_9 (by decide) (fun c95 => ?_) (fun c95 => ?_)
  · have hf := ite_f c95 hf
    exact hj24 r93.2.1 r93.2.2.1 r93.2.2.2.1 r93.2.2.2.2.1 r93.2.2.2.2.2.1 r93.2.2.2.2.2.2.1 r93.2.2.2.2.2.2.2.1 r93.2.2.2.2.2.2.2.2 0 0 hf _ _ _ hR hS (lv_sub hl [0] rfl)
  · have hf := ite_t c95 hf
    refine lv_aload_n hx hb dX22_is_12 rfl (lv_at hl 0 rfl) ?_
    obtain ⟨k96, hf⟩ := gdp_some hf
    obtain ⟨x97, ex97, hf⟩ := lt_some hf
    refine g_getx hx hb hts hown hG hR gFx_X22_13_18 k96 dX22_is_13 ?_
    rw [← ex97]
    refine lv_aload_n hx hb dX22_is_16 rfl (lv_at hl 1 rfl) ?_
    refine lv_iload_n hx hb dX22_is_17 rfl (lv_at hl 2 rfl) ?_
    obtain ⟨a98, ha98, hf⟩ := bind_s hf
    try rw [ha98]
    by_cases k99 : r93.2.1 a98 = some (.inl 14)
    · have hf := ite_t k99 hf
      obtain ⟨r100, hr100, hf⟩ := bind_s hf
      refine x0_gor (vx_runU (As := [.ref a1, .int p2]) (rest := []) (b := a98) ⟨hx, hb, hml, hown, hts⟩ (ih_X18_is G r93.2.1 r93.2.2.1 r93.2.2.2.1 r93.2.2.2.2.1 r93.2.2.2.2.2.1 r93.2.2.2.2.2.2.1 r93.2.2.2.2.2.2.2.1 r93.2.2.2.2.2.2.2.2 a98 a1 p2 r100 hr100) (va_cwA (x := ⟨"PailRow$Cond", "is", "(LPailRow;I)Z"⟩) (owner := "PailRow$Cond") 2 hts gu_X22_16_14 rfl rfl rfl (hG.2 _ q1522 rfl) ⟨by decide +kernel, by decide +kernel, by decide +kernel⟩ ⟨by dsimp only; omega, by dsimp only; omega⟩) (x_preV hG hR hW hS k99 rfl) rfl rfl hl.1 rfl (lv_room (Nat.le_of_ble_eq_true rfl)) dX22_is_18 ⟨Nat.zero_le _, Nat.zero_le _⟩) hS (fun H locs hR hS => ?_)
      refine lv_if_eq (tgt := 28) hx hb dX22_is_21 (by decide) (fun c101 => ?_) (fun c101 => ?_)
      · have hf := ite_t c101 hf
        refine lv_iconst (v := 0) hx hb dX22_is_28 li_0 ?_
        obtain rfl := some_i hf
        exact hend _ _ _ _ dX22_is_29 nz_0 hR hS
      · have hf := ite_f c101 hf
        exact hj24 r100.2.1 r100.2.2.1 r100.2.2.2.1 r100.2.2.2.2.1 r100.2.2.2.2.2.1 r100.2.2.2.2.2.2.1 r100.2.2.2.2.2.2.2.1 r100.2.2.2.2.2.2.2.2 0 0 hf _ _ _ hR hS (lv_sub hl [0] rfl)
    have hf := ite_f k99 hf
    by_cases k102 : r93.2.1 a98 = some (.inl 15)
    · have hf := ite_t k102 hf
      obtain ⟨r103, hr103, hf⟩ := bind_s hf
      refine x0_gor (vx_runU (As := [.ref a1, .int p2]) (rest := []) (b := a98) ⟨hx, hb, hml, hown, hts⟩ (ih_X19_is G r93.2.1 r93.2.2.1 r93.2.2.2.1 r93.2.2.2.2.1 r93.2.2.2.2.2.1 r93.2.2.2.2.2.2.1 r93.2.2.2.2.2.2.2.1 r93.2.2.2.2.2.2.2.2 a98 a1 p2 r103 hr103) (va_cwA (x := ⟨"PailRow$Cond", "is", "(LPailRow;I)Z"⟩) (owner := "PailRow$Cond") 2 hts gu_X22_16_15 rfl rfl rfl (hG.2 _ q1522 rfl) ⟨by decide +kernel, by decide +kernel, by decide +kernel⟩ ⟨by dsimp only; omega, by dsimp only; omega⟩) (x_preV hG hR hW hS k102 rfl) rfl rfl hl.1 rfl (lv_room (Nat.le_of_ble_eq_true rfl)) dX22_is_18 ⟨Nat.zero_le _, Nat.zero_le _⟩) hS (fun H locs hR hS => ?_)
      refine lv_if_eq (tgt := 28) hx hb dX22_is_21 (by decide) (fun c104 => ?_) (fun c104 => ?_)
      · have hf := ite_t c104 hf
        refine lv_iconst (v := 0) hx hb dX22_is_28 li_0 ?_
        obtain rfl := some_i hf
        exact hend _ _ _ _ dX22_is_29 nz_0 hR hS
      · have hf := ite_f c104 hf
        exact hj24 r103.2.1 r103.2.2.1 r103.2.2.2.1 r103.2.2.2.2.1 r103.2.2.2.2.2.1 r103.2.2.2.2.2.2.1 r103.2.2.2.2.2.2.2.1 r103.2.2.2.2.2.2.2.2 0 0 hf _ _ _ hR hS (lv_sub hl [0] rfl)
    have hf := ite_f k102 hf
    by_cases k105 : r93.2.1 a98 = some (.inl 16)
    · have hf := ite_t k105 hf
      obtain ⟨r106, hr106, hf⟩ := bind_s hf
      refine x0_gor (vx_runU (As := [.ref a1, .int p2]) (rest := []) (b := a98) ⟨hx, hb, hml, hown, hts⟩ (ih_X20_is G r93.2.1 r93.2.2.1 r93.2.2.2.1 r93.2.2.2.2.1 r93.2.2.2.2.2.1 r93.2.2.2.2.2.2.1 r93.2.2.2.2.2.2.2.1 r93.2.2.2.2.2.2.2.2 a98 a1 p2 r106 hr106) (va_cwA (x := ⟨"PailRow$Cond", "is", "(LPailRow;I)Z"⟩) (owner := "PailRow$Cond") 2 hts gu_X22_16_16 rfl rfl rfl (hG.2 _ q1522 rfl) ⟨by decide +kernel, by decide +kernel, by decide +kernel⟩ ⟨by dsimp only; omega, by dsimp only; omega⟩) (x_preV hG hR hW hS k105 rfl) rfl rfl hl.1 rfl (lv_room (Nat.le_of_ble_eq_true rfl)) dX22_is_18 ⟨Nat.zero_le _, Nat.zero_le _⟩) hS (fun H locs hR hS => ?_)
      refine lv_if_eq (tgt := 28) hx hb dX22_is_21 (by decide) (fun c107 => ?_) (fun c107 => ?_)
      · have hf := ite_t c107 hf
        refine lv_iconst (v := 0) hx hb dX22_is_28 li_0 ?_
        obtain rfl := some_i hf
        exact hend _ _ _ _ dX22_is_29 nz_0 hR hS
      · have hf := ite_f c107 hf
        exact hj24 r106.2.1 r106.2.2.1 r106.2.2.2.1 r106.2.2.2.2.1 r106.2.2.2.2.2.1 r106.2.2.2.2.2.2.1 r106.2.2.2.2.2.2.2.1 r106.2.2.2.2.2.2.2.2 0 0 hf _ _ _ hR hS (lv_sub hl [0] rfl)
    have hf := ite_f k105 hf
    by_cases k108 : r93.2.1 a98 = some (.inl 17)
    · have hf := ite_t k108 hf
      obtain ⟨r109, hr109, hf⟩ := bind_s hf
      refine x0_gor (vx_runU (As := [.ref a1, .int p2]) (rest := []) (b := a98) ⟨hx, hb, hml, hown, hts⟩ (ih_X21_is G r93.2.1 r93.2.2.1 r93.2.2.2.1 r93.2.2.2.2.1 r93.2.2.2.2.2.1 r93.2.2.2.2.2.2.1 r93.2.2.2.2.2.2.2.1 r93.2.2.2.2.2.2.2.2 a98 a1 p2 r109 hr109) (va_cwA (x := ⟨"PailRow$Cond", "is", "(LPailRow;I)Z"⟩) (owner := "PailRow$Cond") 2 hts gu_X22_16_17 rfl rfl rfl (hG.2 _ q1522 rfl) ⟨by decide +kernel, by decide +kernel, by decide +kernel⟩ ⟨by dsimp only; omega, by dsimp only; omega⟩) (x_preV hG hR hW hS k108 rfl) rfl rfl hl.1 rfl (lv_room (Nat.le_of_ble_eq_true rfl)) dX22_is_18 ⟨Nat.zero_le _, Nat.zero_le _⟩) hS (fun H locs hR hS => ?_)
      refine lv_if_eq (tgt := 28) hx hb dX22_is_21 (by decide) (fun c110 => ?_) (fun c110 => ?_)
      · have hf := ite_t c110 hf
        refine lv_iconst (v := 0) hx hb dX22_is_28 li_0 ?_
        obtain rfl := some_i hf
        exact hend _ _ _ _ dX22_is_29 nz_0 hR hS
      · have hf := ite_f c110 hf
        exact hj24 r109.2.1 r109.2.2.1 r109.2.2.2.1 r109.2.2.2.2.1 r109.2.2.2.2.2.1 r109.2.2.2.2.2.2.1 r109.2.2.2.2.2.2.2.1 r109.2.2.2.2.2.2.2.2 0 0 hf _ _ _ hR hS (lv_sub hl [0] rfl)
    have hf := ite_f k108 hf
    obtain ⟨k111, hf⟩ := gdp_some hf
    obtain ⟨r112, hr112, hf⟩ := bind_s hf
    refine x0_gor (vx_runU (As := [.ref a1, .int p2]) (rest := []) (b := a98) ⟨hx, hb, hml, hown, hts⟩ (ih_X22_is G r93.2.1 r93.2.2.1 r93.2.2.2.1 r93.2.2.2.2.1 r93.2.2.2.2.2.1 r93.2.2.2.2.2.2.1 r93.2.2.2.2.2.2.2.1 r93.2.2.2.2.2.2.2.2 a98 a1 p2 r112 hr112) (va_cwA (x := ⟨"PailRow$Cond", "is", "(LPailRow;I)Z"⟩) (owner := "PailRow$Cond") 2 hts gu_X22_16_18 rfl rfl rfl (hG.2 _ q1522 rfl) ⟨by decide +kernel, by decide +kernel, by decide +kernel⟩ ⟨by dsimp only; omega, by dsimp only; omega⟩) (x_preV hG hR hW hS k111 rfl) rfl rfl hl.1 rfl (lv_room (Nat.le_of_ble_eq_true rfl)) dX22_is_18 ⟨Nat.zero_le _, Nat.zero_le _⟩) hS (fun H locs hR hS => ?_)
    refine lv_if_eq (tgt := 28) hx hb dX22_is_21 (by decide) (fun c113 => ?_) (fun c113 => ?_)
    · have hf := ite_t c113 hf
      refine lv_iconst (v := 0) hx hb dX22_is_28 li_0 ?_
      obtain rfl := some_i hf
      exact hend _ _ _ _ dX22_is_29 nz_0 hR hS
    · have hf := ite_f c113 hf
      exact hj24 r112.2.1 r112.2.2.1 r112.2.2.2.1 r112.2.2.2.2.1 r112.2.2.2.2.2.1 r112.2.2.2.2.2.2.1 r112.2.2.2.2.2.2.2.1 r112.2.2.2.2.2.2.2.2 0 0 hf _ _ _ hR hS (lv_sub hl [0] rfl)
theorem w18_is_z : w18_is 0 = fun _ _ _ _ _ _ _ _ _ _ _ _ _ => none := rfl
theorem w18_is_s (d : Nat) : w18_is (d + 1) = wb18_is (w18_is d) (w19_is d) (w20_is d) (w21_is d) (w22_is d) := rfl
theorem w19_is_z : w19_is 0 = fun _ _ _ _ _ _ _ _ _ _ _ _ _ => none := rfl
theorem w19_is_s (d : Nat) : w19_is (d + 1) = wb19_is (w18_is d) (w19_is d) (w20_is d) (w21_is d) (w22_is d) := rfl
theorem w20_is_z : w20_is 0 = fun _ _ _ _ _ _ _ _ _ _ _ _ _ => none := rfl
theorem w20_is_s (d : Nat) : w20_is (d + 1) = wb20_is (w18_is d) (w19_is d) (w20_is d) (w21_is d) (w22_is d) := rfl
theorem w21_is_z : w21_is 0 = fun _ _ _ _ _ _ _ _ _ _ _ _ _ => none := rfl
theorem w21_is_s (d : Nat) : w21_is (d + 1) = wb21_is (w18_is d) (w19_is d) (w20_is d) (w21_is d) (w22_is d) := rfl
theorem w22_is_z : w22_is 0 = fun _ _ _ _ _ _ _ _ _ _ _ _ _ => none := rfl
theorem w22_is_s (d : Nat) : w22_is (d + 1) = wb22_is (w18_is d) (w19_is d) (w20_is d) (w21_is d) (w22_is d) := rfl
theorem wH_X18_is (l : Launch) : ∀ d : Nat, (∀ (G : gG) (K : gK) (I : gI) (J : gJ) (X : gX) (A : gI) (B : gJ) (Q : gX) (n : Nat) (o : Nat) (a1 : Nat) (p2 : Int32) (out : Int32 × gK × gI × gJ × gX × gI × gJ × gX × Nat) (hf : w18_is d G.2.2 (aK G) o a1 p2 K I J X A B Q n = some out), GMetX l yX18_is cX18_is 3 (some .boolean) (d + 1) (d * 23 + 22) G [.ref o, .ref a1, .int p2] K I J X A B Q (.inr (some (.int out.1))) out.2.1 out.2.2.1 out.2.2.2.1 out.2.2.2.2.1 out.2.2.2.2.2.1 out.2.2.2.2.2.2.1 out.2.2.2.2.2.2.2.1 0 0) ∧ (∀ (G : gG) (K : gK) (I : gI) (J : gJ) (X : gX) (A : gI) (B : gJ) (Q : gX) (n : Nat) (o : Nat) (a1 : Nat) (p2 : Int32) (out : Int32 × gK × gI × gJ × gX × gI × gJ × gX × Nat) (hf : w19_is d G.2.2 (aK G) o a1 p2 K I J X A B Q n = some out), GMetX l yX19_is cX19_is 4 (some .boolean) (d + 1) (d * 23 + 22) G [.ref o, .ref a1, .int p2] K I J X A B Q (.inr (some (.int out.1))) out.2.1 out.2.2.1 out.2.2.2.1 out.2.2.2.2.1 out.2.2.2.2.2.1 out.2.2.2.2.2.2.1 out.2.2.2.2.2.2.2.1 0 0) ∧ (∀ (G : gG) (K : gK) (I : gI) (J : gJ) (X : gX) (A : gI) (B : gJ) (Q : gX) (n : Nat) (o : Nat) (a1 : Nat) (p2 : Int32) (out : Int32 × gK × gI × gJ × gX × gI × gJ × gX × Nat) (hf : w20_is d G.2.2 (aK G) o a1 p2 K I J X A B Q n = some out), GMetX l yX20_is cX20_is 3 (some .boolean) (d + 1) (d * 23 + 22) G [.ref o, .ref a1, .int p2] K I J X A B Q (.inr (some (.int out.1))) out.2.1 out.2.2.1 out.2.2.2.1 out.2.2.2.2.1 out.2.2.2.2.2.1 out.2.2.2.2.2.2.1 out.2.2.2.2.2.2.2.1 0 0) ∧ (∀ (G : gG) (K : gK) (I : gI) (J : gJ) (X : gX) (A : gI) (B : gJ) (Q : gX) (n : Nat) (o : Nat) (a1 : Nat) (p2 : Int32) (out : Int32 × gK × gI × gJ × gX × gI × gJ × gX × Nat) (hf : w21_is d G.2.2 (aK G) o a1 p2 K I J X A B Q n = some out), GMetX l yX21_is cX21_is 3 (some .boolean) (d + 1) (d * 23 + 22) G [.ref o, .ref a1, .int p2] K I J X A B Q (.inr (some (.int out.1))) out.2.1 out.2.2.1 out.2.2.2.1 out.2.2.2.2.1 out.2.2.2.2.2.1 out.2.2.2.2.2.2.1 out.2.2.2.2.2.2.2.1 0 0) ∧ (∀ (G : gG) (K : gK) (I : gI) (J : gJ) (X : gX) (A : gI) (B : gJ) (Q : gX) (n : Nat) (o : Nat) (a1 : Nat) (p2 : Int32) (out : Int32 × gK × gI × gJ × gX × gI × gJ × gX × Nat) (hf : w22_is d G.2.2 (aK G) o a1 p2 K I J X A B Q n = some out), GMetX l yX22_is cX22_is 3 (some .boolean) (d + 1) (d * 23 + 22) G [.ref o, .ref a1, .int p2] K I J X A B Q (.inr (some (.int out.1))) out.2.1 out.2.2.1 out.2.2.2.1 out.2.2.2.2.1 out.2.2.2.2.2.1 out.2.2.2.2.2.2.1 out.2.2.2.2.2.2.2.1 0 0) := by
  intro d
  induction d with
  | zero =>
    exact ⟨(by intro G K I J X A B Q n o a1 p2 out hf; rw [w18_is_z] at hf; cases hf), (by intro G K I J X A B Q n o a1 p2 out hf; rw [w19_is_z] at hf; cases hf), (by intro G K I J X A B Q n o a1 p2 out hf; rw [w20_is_z] at hf; cases hf), (by intro G K I J X A B Q n o a1 p2 out hf; rw [w21_is_z] at hf; cases hf), (by intro G K I J X A B Q n o a1 p2 out hf; rw [w22_is_z] at hf; cases hf)⟩
  | succ d ih =>
    exact ⟨(by intro G K I J X A B Q n o a1 p2 out hf; rw [w18_is_s] at hf; exact y18_is l d (w18_is d) (w19_is d) (w20_is d) (w21_is d) (w22_is d) ih.1 ih.2.1 ih.2.2.1 ih.2.2.2.1 ih.2.2.2.2 G K I J X A B Q n o a1 p2 out hf), (by intro G K I J X A B Q n o a1 p2 out hf; rw [w19_is_s] at hf; exact y19_is l d (w18_is d) (w19_is d) (w20_is d) (w21_is d) (w22_is d) ih.1 ih.2.1 ih.2.2.1 ih.2.2.2.1 ih.2.2.2.2 G K I J X A B Q n o a1 p2 out hf), (by intro G K I J X A B Q n o a1 p2 out hf; rw [w20_is_s] at hf; exact y20_is l d (w18_is d) (w19_is d) (w20_is d) (w21_is d) (w22_is d) ih.1 ih.2.1 ih.2.2.1 ih.2.2.2.1 ih.2.2.2.2 G K I J X A B Q n o a1 p2 out hf), (by intro G K I J X A B Q n o a1 p2 out hf; rw [w21_is_s] at hf; exact y21_is l d (w18_is d) (w19_is d) (w20_is d) (w21_is d) (w22_is d) ih.1 ih.2.1 ih.2.2.1 ih.2.2.2.1 ih.2.2.2.2 G K I J X A B Q n o a1 p2 out hf), (by intro G K I J X A B Q n o a1 p2 out hf; rw [w22_is_s] at hf; exact y22_is l d (w18_is d) (w19_is d) (w20_is d) (w21_is d) (w22_is d) ih.1 ih.2.1 ih.2.2.1 ih.2.2.2.1 ih.2.2.2.2 G K I J X A B Q n o a1 p2 out hf)⟩
theorem m18_is_w (l : Launch) (d : Nat) : ∀ (G : gG) (K : gK) (I : gI) (J : gJ) (X : gX) (A : gI) (B : gJ) (Q : gX) (n : Nat) (o : Nat) (a1 : Nat) (p2 : Int32) (out : Int32 × gK × gI × gJ × gX × gI × gJ × gX × Nat) (hf : w18_is d G.2.2 (aK G) o a1 p2 K I J X A B Q n = some out), GMetX l yX18_is cX18_is 3 (some .boolean) (d + 1) (d * 23 + 22) G [.ref o, .ref a1, .int p2] K I J X A B Q (.inr (some (.int out.1))) out.2.1 out.2.2.1 out.2.2.2.1 out.2.2.2.2.1 out.2.2.2.2.2.1 out.2.2.2.2.2.2.1 out.2.2.2.2.2.2.2.1 0 0 := (wH_X18_is l d).1
theorem m19_is_w (l : Launch) (d : Nat) : ∀ (G : gG) (K : gK) (I : gI) (J : gJ) (X : gX) (A : gI) (B : gJ) (Q : gX) (n : Nat) (o : Nat) (a1 : Nat) (p2 : Int32) (out : Int32 × gK × gI × gJ × gX × gI × gJ × gX × Nat) (hf : w19_is d G.2.2 (aK G) o a1 p2 K I J X A B Q n = some out), GMetX l yX19_is cX19_is 4 (some .boolean) (d + 1) (d * 23 + 22) G [.ref o, .ref a1, .int p2] K I J X A B Q (.inr (some (.int out.1))) out.2.1 out.2.2.1 out.2.2.2.1 out.2.2.2.2.1 out.2.2.2.2.2.1 out.2.2.2.2.2.2.1 out.2.2.2.2.2.2.2.1 0 0 := (wH_X18_is l d).2.1
theorem m20_is_w (l : Launch) (d : Nat) : ∀ (G : gG) (K : gK) (I : gI) (J : gJ) (X : gX) (A : gI) (B : gJ) (Q : gX) (n : Nat) (o : Nat) (a1 : Nat) (p2 : Int32) (out : Int32 × gK × gI × gJ × gX × gI × gJ × gX × Nat) (hf : w20_is d G.2.2 (aK G) o a1 p2 K I J X A B Q n = some out), GMetX l yX20_is cX20_is 3 (some .boolean) (d + 1) (d * 23 + 22) G [.ref o, .ref a1, .int p2] K I J X A B Q (.inr (some (.int out.1))) out.2.1 out.2.2.1 out.2.2.2.1 out.2.2.2.2.1 out.2.2.2.2.2.1 out.2.2.2.2.2.2.1 out.2.2.2.2.2.2.2.1 0 0 := (wH_X18_is l d).2.2.1
theorem m21_is_w (l : Launch) (d : Nat) : ∀ (G : gG) (K : gK) (I : gI) (J : gJ) (X : gX) (A : gI) (B : gJ) (Q : gX) (n : Nat) (o : Nat) (a1 : Nat) (p2 : Int32) (out : Int32 × gK × gI × gJ × gX × gI × gJ × gX × Nat) (hf : w21_is d G.2.2 (aK G) o a1 p2 K I J X A B Q n = some out), GMetX l yX21_is cX21_is 3 (some .boolean) (d + 1) (d * 23 + 22) G [.ref o, .ref a1, .int p2] K I J X A B Q (.inr (some (.int out.1))) out.2.1 out.2.2.1 out.2.2.2.1 out.2.2.2.2.1 out.2.2.2.2.2.1 out.2.2.2.2.2.2.1 out.2.2.2.2.2.2.2.1 0 0 := (wH_X18_is l d).2.2.2.1
theorem m22_is_w (l : Launch) (d : Nat) : ∀ (G : gG) (K : gK) (I : gI) (J : gJ) (X : gX) (A : gI) (B : gJ) (Q : gX) (n : Nat) (o : Nat) (a1 : Nat) (p2 : Int32) (out : Int32 × gK × gI × gJ × gX × gI × gJ × gX × Nat) (hf : w22_is d G.2.2 (aK G) o a1 p2 K I J X A B Q n = some out), GMetX l yX22_is cX22_is 3 (some .boolean) (d + 1) (d * 23 + 22) G [.ref o, .ref a1, .int p2] K I J X A B Q (.inr (some (.int out.1))) out.2.1 out.2.2.1 out.2.2.2.1 out.2.2.2.2.1 out.2.2.2.2.2.1 out.2.2.2.2.2.2.1 out.2.2.2.2.2.2.2.1 0 0 := (wH_X18_is l d).2.2.2.2
