/-! the walks of PailRowModel (printed by tools) 10 -/
set_option maxRecDepth 100000
noncomputable def f14_sentence_e9_0 (rr1 : Int32 × Int32 × Int32 × Int32 × Int32 × Int32 × Int32 × Int32 × Int32 × Int32 × Int32 × Int64 × (Nat → Int32)) (rr2 : Int32 × Int32 × Int32 × Int32 × Int32 × Int32 × Int32 × Int32 × Int32 × Int32 × Int32 × Int32 × Int32 × Int64 × (Nat → Int32)) (x9_0 : (Nat → Int32)) : Option (Int32 × Int32 × Int32 × Int32 × Int32 × Int32 × Int32 × Int32 × Int32 × Int32 × Int32 × Int32 × Int32 × Int32 × Int32 × Int32 × Int32 × Int32 × Int64 × (Nat → Int32) × (Nat → Int32)) :=
  some (rr2.2.2.2.2.2.2.2.2.2.2.1, rr1.1, rr1.2.1, rr1.2.2.1, rr1.2.2.2.1, rr2.2.1, rr2.2.2.1, rr2.2.2.2.1, rr2.2.2.2.2.1, rr2.2.2.2.2.2.1, rr2.2.2.2.2.2.2.1, rr2.2.2.2.2.2.2.2.1, rr2.2.2.2.2.2.2.2.2.1, rr1.2.2.2.2.2.2.2.2.2.2.1, rr2.2.2.2.2.2.2.2.2.2.1, rr2.2.2.2.2.2.2.2.2.2.2.1, rr2.2.2.2.2.2.2.2.2.2.2.2.1, rr2.2.2.2.2.2.2.2.2.2.2.2.2.1, rr2.2.2.2.2.2.2.2.2.2.2.2.2.2.1, x9_0, rr2.2.2.2.2.2.2.2.2.2.2.2.2.2.2)

noncomputable def f14_sentence_s9 (rr2 : Int32 × Int32 × Int32 × Int32 × Int32 × Int32 × Int32 × Int32 × Int32 × Int32 × Int32 × Int32 × Int32 × Int64 × (Nat → Int32)) (w9_1 : Int32) (w9_a_now : Nat → Int32) : Option ((Int32 × (Nat → Int32)) ⊕ ((Nat → Int32))) :=
  if (240 : Int32) ≤ w9_1 then
    some (.inr w9_a_now)
  else
    lt ((550 : Int32) + w9_1) fun v11 =>
    gd (inb w9_1 240) <|
    lt (rr2.2.2.2.2.2.2.2.2.2.2.2.2.2.2 w9_1.toNatClampNeg) fun v13 =>
    gd (inb v11 800) <|
    lt (upd w9_a_now v11.toNatClampNeg v13) fun u15 =>
    lt (w9_1 + (1 : Int32)) fun v16 =>
    some (.inl (v16, u15))

noncomputable def f14_sentence (i_thrown : Int32) (i_taped : Int32) (i_size : Int32) (i_limit : Int32) (i_to : Int32) (i_from : Int32) (i_kind : Int32) (i_number : Int32) (i_sign : Int32) (i_fault : Int32) (i_at : Int32) (i_told : Int32) (i_isBegun : Int32) (i_nodes : Int32) (i_ones : Int32) (i_within : Int32) (i_top : Int32) (j_word : Int64) (a_tape : Nat → Int32) (a_now : Nat → Int32) (a_node : Nat → Int32) : Option (Int32 × Int32 × Int32 × Int32 × Int32 × Int32 × Int32 × Int32 × Int32 × Int32 × Int32 × Int32 × Int32 × Int32 × Int32 × Int32 × Int32 × Int32 × Int64 × (Nat → Int32) × (Nat → Int32)) :=
  (f14_begin (200 : Int32) i_thrown i_taped i_size i_limit i_to i_from i_kind i_number i_sign i_fault i_isBegun j_word a_tape a_now).bind fun rr1 =>
  (f14_readOr 60 rr1.2.2.1 rr1.2.2.2.1 rr1.2.2.2.2.1 rr1.2.2.2.2.2.1 rr1.2.2.2.2.2.2.1 rr1.2.2.2.2.2.2.2.1 rr1.2.2.2.2.2.2.2.2.1 rr1.2.2.2.2.2.2.2.2.2.1 i_at i_told (0 : Int32) (0 : Int32) (0 : Int32) i_top rr1.2.2.2.2.2.2.2.2.2.2.2.1 a_tape a_node).bind fun rr2 =>
  if rr2.1 = 0 then
    lt ((-1 : Int32) - rr2.2.2.2.2.2.2.2.1) fun v19 =>
    some (v19, rr1.1, rr1.2.1, rr1.2.2.1, rr1.2.2.2.1, rr2.2.1, rr2.2.2.1, rr2.2.2.2.1, rr2.2.2.2.2.1, rr2.2.2.2.2.2.1, rr2.2.2.2.2.2.2.1, rr2.2.2.2.2.2.2.2.1, rr2.2.2.2.2.2.2.2.2.1, rr1.2.2.2.2.2.2.2.2.2.2.1, rr2.2.2.2.2.2.2.2.2.2.1, rr2.2.2.2.2.2.2.2.2.2.2.1, rr2.2.2.2.2.2.2.2.2.2.2.2.1, rr2.2.2.2.2.2.2.2.2.2.2.2.2.1, rr2.2.2.2.2.2.2.2.2.2.2.2.2.2.1, rr1.2.2.2.2.2.2.2.2.2.2.2.2, rr2.2.2.2.2.2.2.2.2.2.2.2.2.2.2)
  else
    if rr2.2.2.2.1 = 0 then
      gd (inb (540 : Int32) 800) <|
      lt (upd rr1.2.2.2.2.2.2.2.2.2.2.2.2 (540 : Int32).toNatClampNeg (1 : Int32)) fun u6 =>
      gd (inb (541 : Int32) 800) <|
      lt (upd u6 (541 : Int32).toNatClampNeg rr2.2.2.2.2.2.2.2.2.2.2.2.2.1) fun u8 =>
      (whl (fun (s9 : Int32 × (Nat → Int32)) => f14_sentence_s9 rr2 s9.1 s9.2) FU ((0 : Int32), u8)).bind fun rl9 =>
      f14_sentence_e9_0 rr1 rr2 rl9
    else
      (f14_bad (1 : Int32) rr2.2.2.1 rr2.2.2.2.1 rr2.2.2.2.2.2.2.1 rr2.2.2.2.2.2.2.2.1).bind fun rr17 =>
      lt ((-1 : Int32) - rr17.2.2) fun v18 =>
      some (v18, rr1.1, rr1.2.1, rr1.2.2.1, rr1.2.2.2.1, rr2.2.1, rr2.2.2.1, rr2.2.2.2.1, rr2.2.2.2.2.1, rr2.2.2.2.2.2.1, rr17.2.1, rr17.2.2, rr2.2.2.2.2.2.2.2.2.1, rr1.2.2.2.2.2.2.2.2.2.2.1, rr2.2.2.2.2.2.2.2.2.2.1, rr2.2.2.2.2.2.2.2.2.2.2.1, rr2.2.2.2.2.2.2.2.2.2.2.2.1, rr2.2.2.2.2.2.2.2.2.2.2.2.2.1, rr2.2.2.2.2.2.2.2.2.2.2.2.2.2.1, rr1.2.2.2.2.2.2.2.2.2.2.2.2, rr2.2.2.2.2.2.2.2.2.2.2.2.2.2.2)
set_option maxHeartbeats 4000000 in
theorem m14_sentence (l : Launch) (G : gG) (K : gK) (I : gI) (J : gJ) (X : gX) (A : gI) (B : gJ) (Q : gX) (o : Nat) (shM : Sh K X o 11 rows11)  (i_thrown : Int32) (i_taped : Int32) (i_size : Int32) (i_limit : Int32) (i_to : Int32) (i_from : Int32) (i_kind : Int32) (i_number : Int32) (i_sign : Int32) (i_fault : Int32) (i_at : Int32) (i_told : Int32) (i_isBegun : Int32) (i_nodes : Int32) (i_ones : Int32) (i_within : Int32) (i_top : Int32) (j_word : Int64) (a_tape : Nat → Int32) (a_now : Nat → Int32) (a_node : Nat → Int32) (e_i_thrown : I 1100 o = i_thrown) (e_i_taped : I 1102 o = i_taped) (e_i_size : I 1103 o = i_size) (e_i_limit : I 1104 o = i_limit) (e_i_to : I 1105 o = i_to) (e_i_from : I 1106 o = i_from) (e_i_kind : I 1107 o = i_kind) (e_i_number : I 1108 o = i_number) (e_i_sign : I 1109 o = i_sign) (e_i_fault : I 1110 o = i_fault) (e_i_at : I 1111 o = i_at) (e_i_told : I 1113 o = i_told) (e_i_isBegun : I 1122 o = i_isBegun) (e_i_nodes : I 1187 o = i_nodes) (e_i_ones : I 1188 o = i_ones) (e_i_within : I 1189 o = i_within) (e_i_top : I 1190 o = i_top) (e_j_word : J 1112 o = j_word) (e_a_tape : A (o + 1) = a_tape) (e_a_now : A (o + 2) = a_now) (e_a_node : A (o + 44) = a_node) (out : Int32 × Int32 × Int32 × Int32 × Int32 × Int32 × Int32 × Int32 × Int32 × Int32 × Int32 × Int32 × Int32 × Int32 × Int32 × Int32 × Int32 × Int32 × Int64 × (Nat → Int32) × (Nat → Int32)) (hf : f14_sentence i_thrown i_taped i_size i_limit i_to i_from i_kind i_number i_sign i_fault i_at i_told i_isBegun i_nodes i_ones i_within i_top j_word a_tape a_now a_node = some out) : GMet l yX14_sentence cX14_sentence 2 (some .int) (65) (1490) G [.ref o] K I J X A B Q (some (.int out.1)) K (ov I [(1100, o, out.2.1), (1102, o, out.2.2.1), (1103, o, out.2.2.2.1), (1104, o, out.2.2.2.2.1), (1105, o, out.2.2.2.2.2.1), (1106, o, out.2.2.2.2.2.2.1), (1107, o, out.2.2.2.2.2.2.2.1), (1108, o, out.2.2.2.2.2.2.2.2.1), (1109, o, out.2.2.2.2.2.2.2.2.2.1), (1110, o, out.2.2.2.2.2.2.2.2.2.2.1), (1111, o, out.2.2.2.2.2.2.2.2.2.2.2.1), (1113, o, out.2.2.2.2.2.2.2.2.2.2.2.2.1), (1122, o, out.2.2.2.2.2.2.2.2.2.2.2.2.2.1), (1187, o, out.2.2.2.2.2.2.2.2.2.2.2.2.2.2.1), (1188, o, out.2.2.2.2.2.2.2.2.2.2.2.2.2.2.2.1), (1189, o, out.2.2.2.2.2.2.2.2.2.2.2.2.2.2.2.2.1), (1190, o, out.2.2.2.2.2.2.2.2.2.2.2.2.2.2.2.2.2.1)]) (ov J [(1112, o, out.2.2.2.2.2.2.2.2.2.2.2.2.2.2.2.2.2.2.1)]) X (ova A [((o + 1), a_tape), ((o + 2), out.2.2.2.2.2.2.2.2.2.2.2.2.2.2.2.2.2.2.2.1), ((o + 44), out.2.2.2.2.2.2.2.2.2.2.2.2.2.2.2.2.2.2.2.2)]) B Q 0 0 := by
  refine GMet.of (y := yX14_sentence) rfl (Nat.le_of_ble_eq_true rfl) rfl ?_
  intro p e s m below meth c ls hx hb hr hml hlocks hts hown hname hG hR hl
  have hown : s.vm.findClass RX14 = some m.cls := hown
  have k_a_tape : K (o + 1) = some (.inr (0, 740)) := (shM.2 0 _ rfl).1
  have k_a_now : K (o + 2) = some (.inr (0, 800)) := (shM.2 1 _ rfl).1
  have k_a_node : K (o + 44) = some (.inr (0, 240)) := (shM.2 43 _ rfl).1
  have hN_A : nda [(o + 1), (o + 2), (o + 44)] := nd_off o [1, 2, 44] rfl
  have hR : RS G K (ov I [(1100, o, i_thrown), (1102, o, i_taped), (1103, o, i_size), (1104, o, i_limit), (1105, o, i_to), (1106, o, i_from), (1107, o, i_kind), (1108, o, i_number), (1109, o, i_sign), (1110, o, i_fault), (1111, o, i_at), (1113, o, i_told), (1122, o, i_isBegun), (1187, o, i_nodes), (1188, o, i_ones), (1189, o, i_within), (1190, o, i_top)]) (ov J [(1112, o, j_word)]) X (ova A [((o + 1), a_tape), ((o + 2), a_now), ((o + 44), a_node)]) B Q s.heap := hR.to (Eq.symm (ov_sc e_i_thrown (ov_sc e_i_taped (ov_sc e_i_size (ov_sc e_i_limit (ov_sc e_i_to (ov_sc e_i_from (ov_sc e_i_kind (ov_sc e_i_number (ov_sc e_i_sign (ov_sc e_i_fault (ov_sc e_i_at (ov_sc e_i_told (ov_sc e_i_isBegun (ov_sc e_i_nodes (ov_sc e_i_ones (ov_sc e_i_within (ov_sc e_i_top rfl)))))))))))))))))) (Eq.symm (ov_sc e_j_word rfl)) rfl (Eq.symm (ova_sc e_a_tape (ova_sc e_a_now (ova_sc e_a_node rfl)))) rfl rfl
  have hS : va_S (gA G) s.heap s.heap [] := va_S.rf
  have hend : ∀ (pc : Nat) (H : Heap) (locs : List Loc) (ls : Array Slot), decode cX14_sentence pc = .ok (.ireturn, 1) → RS G K (ov I [(1100, o, out.2.1), (1102, o, out.2.2.1), (1103, o, out.2.2.2.1), (1104, o, out.2.2.2.2.1), (1105, o, out.2.2.2.2.2.1), (1106, o, out.2.2.2.2.2.2.1), (1107, o, out.2.2.2.2.2.2.2.1), (1108, o, out.2.2.2.2.2.2.2.2.1), (1109, o, out.2.2.2.2.2.2.2.2.2.1), (1110, o, out.2.2.2.2.2.2.2.2.2.2.1), (1111, o, out.2.2.2.2.2.2.2.2.2.2.2.1), (1113, o, out.2.2.2.2.2.2.2.2.2.2.2.2.1), (1122, o, out.2.2.2.2.2.2.2.2.2.2.2.2.2.1), (1187, o, out.2.2.2.2.2.2.2.2.2.2.2.2.2.2.1), (1188, o, out.2.2.2.2.2.2.2.2.2.2.2.2.2.2.2.1), (1189, o, out.2.2.2.2.2.2.2.2.2.2.2.2.2.2.2.2.1), (1190, o, out.2.2.2.2.2.2.2.2.2.2.2.2.2.2.2.2.2.1)]) (ov J [(1112, o, out.2.2.2.2.2.2.2.2.2.2.2.2.2.2.2.2.2.2.1)]) X (ova A [((o + 1), a_tape), ((o + 2), out.2.2.2.2.2.2.2.2.2.2.2.2.2.2.2.2.2.2.2.1), ((o + 44), out.2.2.2.2.2.2.2.2.2.2.2.2.2.2.2.2.2.2.2.2)]) B Q H → va_S (gA G) s.heap H locs → W p l e ({ frames := 65, cells := 0, slots := 0, locals := 1490 } : Room) s m ([.ref o] : List Value).toArray below meth c H locs 0 0 (MQ below (gQ G (some (.int out.1)) K (ov I [(1100, o, out.2.1), (1102, o, out.2.2.1), (1103, o, out.2.2.2.1), (1104, o, out.2.2.2.2.1), (1105, o, out.2.2.2.2.2.1), (1106, o, out.2.2.2.2.2.2.1), (1107, o, out.2.2.2.2.2.2.2.1), (1108, o, out.2.2.2.2.2.2.2.2.1), (1109, o, out.2.2.2.2.2.2.2.2.2.1), (1110, o, out.2.2.2.2.2.2.2.2.2.2.1), (1111, o, out.2.2.2.2.2.2.2.2.2.2.2.1), (1113, o, out.2.2.2.2.2.2.2.2.2.2.2.2.1), (1122, o, out.2.2.2.2.2.2.2.2.2.2.2.2.2.1), (1187, o, out.2.2.2.2.2.2.2.2.2.2.2.2.2.2.1), (1188, o, out.2.2.2.2.2.2.2.2.2.2.2.2.2.2.2.1), (1189, o, out.2.2.2.2.2.2.2.2.2.2.2.2.2.2.2.2.1), (1190, o, out.2.2.2.2.2.2.2.2.2.2.2.2.2.2.2.2.2.1)]) (ov J [(1112, o, out.2.2.2.2.2.2.2.2.2.2.2.2.2.2.2.2.2.2.1)]) X (ova A [((o + 1), a_tape), ((o + 2), out.2.2.2.2.2.2.2.2.2.2.2.2.2.2.2.2.2.2.2.1), ((o + 44), out.2.2.2.2.2.2.2.2.2.2.2.2.2.2.2.2.2.2.2.2)]) B Q) ([.ref o] : List Value).toArray s 0 0 (gA G)) (F0 m pc ls [.int out.1]) := fun pc H locs ls hd hR hS => g_iret hx hb hr hlocks hG hR hS rfl hd
  generalize MQ below (gQ G (some (.int out.1)) K (ov I [(1100, o, out.2.1), (1102, o, out.2.2.1), (1103, o, out.2.2.2.1), (1104, o, out.2.2.2.2.1), (1105, o, out.2.2.2.2.2.1), (1106, o, out.2.2.2.2.2.2.1), (1107, o, out.2.2.2.2.2.2.2.1), (1108, o, out.2.2.2.2.2.2.2.2.1), (1109, o, out.2.2.2.2.2.2.2.2.2.1), (1110, o, out.2.2.2.2.2.2.2.2.2.2.1), (1111, o, out.2.2.2.2.2.2.2.2.2.2.2.1), (1113, o, out.2.2.2.2.2.2.2.2.2.2.2.2.1), (1122, o, out.2.2.2.2.2.2.2.2.2.2.2.2.2.1), (1187, o, out.2.2.2.2.2.2.2.2.2.2.2.2.2.2.1), (1188, o, out.2.2.2.2.2.2.2.2.2.2.2.2.2.2.2.1), (1189, o, out.2.2.2.2.2.2.2.2.2.2.2.2.2.2.2.2.1), (1190, o, out.2.2.2.2.2.2.2.2.2.2.2.2.2.2.2.2.2.1)]) (ov J [(1112, o, out.2.2.2.2.2.2.2.2.2.2.2.2.2.2.2.2.2.2.1)]) X (ova A [((o + 1), a_tape), ((o + 2), out.2.2.2.2.2.2.2.2.2.2.2.2.2.2.2.2.2.2.2.1), ((o + 44), out.2.2.2.2.2.2.2.2.2.2.2.2.2.2.2.2.2.2.2.2)]) B Q) ([.ref o] : List Value).toArray s 0 0 (gA G) = Z at hend ⊢
  generalize ([.ref o] : List Value).toArray = args at hts hend ⊢
  unfold f14_sentence at hf
  refine lv_aload_n hx hb dX14_sentence_0 rfl (lv_at hl 0 rfl) ?_
  refine lv_sipush (v := 200) hx hb dX14_sentence_1 ls_200 ?_
  obtain ⟨rr1, hrr1, hf⟩ := bind_s hf
  refine g0_cVv (rm := (2, 45)) (As := [.int (200 : Int32)]) (rest := []) ⟨hx, hb, hml, hown, hts⟩ hG hR hS (m14_begin l G K (ov I [(1100, o, i_thrown), (1102, o, i_taped), (1103, o, i_size), (1104, o, i_limit), (1105, o, i_to), (1106, o, i_from), (1107, o, i_kind), (1108, o, i_number), (1109, o, i_sign), (1110, o, i_fault), (1111, o, i_at), (1113, o, i_told), (1122, o, i_isBegun), (1187, o, i_nodes), (1188, o, i_ones), (1189, o, i_within), (1190, o, i_top)]) (ov J [(1112, o, j_word)]) X (ova A [((o + 1), a_tape), ((o + 2), a_now), ((o + 44), a_node)]) B Q o shM (200 : Int32) i_thrown i_taped i_size i_limit i_to i_from i_kind i_number i_sign i_fault i_isBegun j_word a_tape a_now (ov_get 0 rfl rfl) (ov_get 1 rfl rfl) (ov_get 2 rfl rfl) (ov_get 3 rfl rfl) (ov_get 4 rfl rfl) (ov_get 5 rfl rfl) (ov_get 6 rfl rfl) (ov_get 7 rfl rfl) (ov_get 8 rfl rfl) (ov_get 9 rfl rfl) (ov_get 12 rfl rfl) (ov_get 0 rfl rfl) (ova_get 0 hN_A rfl) (ova_get 1 hN_A rfl) rr1 hrr1) (cwV 1 hts gi_X14_282 rfl rfl rfl hd_X14_begin ⟨Nat.le_of_ble_eq_true rfl, Nat.le_of_ble_eq_true rfl⟩) shM.1 rfl rfl hl.1 (Nat.le_of_ble_eq_true rfl) dX14_sentence_4 ⟨Nat.le_refl _, Nat.le_refl _⟩ rfl (fun H locs hR hS => ?_)
  have hR : RS G K (ov I [(1100, o, rr1.1), (1102, o, rr1.2.1), (1103, o, rr1.2.2.1), (1104, o, rr1.2.2.2.1), (1105, o, rr1.2.2.2.2.1), (1106, o, rr1.2.2.2.2.2.1), (1107, o, rr1.2.2.2.2.2.2.1), (1108, o, rr1.2.2.2.2.2.2.2.1), (1109, o, rr1.2.2.2.2.2.2.2.2.1), (1110, o, rr1.2.2.2.2.2.2.2.2.2.1), (1111, o, i_at), (1113, o, i_told), (1122, o, rr1.2.2.2.2.2.2.2.2.2.2.1), (1187, o, i_nodes), (1188, o, i_ones), (1189, o, i_within), (1190, o, i_top)]) (ov J [(1112, o, rr1.2.2.2.2.2.2.2.2.2.2.2.1)]) X (ova A [((o + 1), a_tape), ((o + 2), rr1.2.2.2.2.2.2.2.2.2.2.2.2), ((o + 44), a_node)]) B Q H := hR.to (ov_merge (l := [(1100, o, i_thrown), (1102, o, i_taped), (1103, o, i_size), (1104, o, i_limit), (1105, o, i_to), (1106, o, i_from), (1107, o, i_kind), (1108, o, i_number), (1109, o, i_sign), (1110, o, i_fault), (1111, o, i_at), (1113, o, i_told), (1122, o, i_isBegun), (1187, o, i_nodes), (1188, o, i_ones), (1189, o, i_within), (1190, o, i_top)]) rfl [0, 1, 2, 3, 4, 5, 6, 7, 8, 9, 12] [(1100, o, rr1.1), (1102, o, rr1.2.1), (1103, o, rr1.2.2.1), (1104, o, rr1.2.2.2.1), (1105, o, rr1.2.2.2.2.1), (1106, o, rr1.2.2.2.2.2.1), (1107, o, rr1.2.2.2.2.2.2.1), (1108, o, rr1.2.2.2.2.2.2.2.1), (1109, o, rr1.2.2.2.2.2.2.2.2.1), (1110, o, rr1.2.2.2.2.2.2.2.2.2.1), (1122, o, rr1.2.2.2.2.2.2.2.2.2.2.1)] rfl rfl) (ov_merge (l := [(1112, o, j_word)]) rfl [0] [(1112, o, rr1.2.2.2.2.2.2.2.2.2.2.2.1)] rfl rfl) rfl (ova_merge (l := [((o + 1), a_tape), ((o + 2), a_now), ((o + 44), a_node)]) hN_A [0, 1] [((o + 1), a_tape), ((o + 2), rr1.2.2.2.2.2.2.2.2.2.2.2.2)] rfl rfl) rfl rfl
  refine lv_aload_n hx hb dX14_sentence_7 rfl (lv_at hl 0 rfl) ?_
  refine lv_iconst (v := 0) hx hb dX14_sentence_8 li_0 ?_
  refine n_puti (li' := [(1100, o, rr1.1), (1102, o, rr1.2.1), (1103, o, rr1.2.2.1), (1104, o, rr1.2.2.2.1), (1105, o, rr1.2.2.2.2.1), (1106, o, rr1.2.2.2.2.2.1), (1107, o, rr1.2.2.2.2.2.2.1), (1108, o, rr1.2.2.2.2.2.2.2.1), (1109, o, rr1.2.2.2.2.2.2.2.2.1), (1110, o, rr1.2.2.2.2.2.2.2.2.2.1), (1111, o, i_at), (1113, o, i_told), (1122, o, rr1.2.2.2.2.2.2.2.2.2.2.1), (1187, o, (0 : Int32)), (1188, o, i_ones), (1189, o, i_within), (1190, o, i_top)]) hx hb hts hown hG hR hS gPi_X14_503_11 shM.1 13 rfl rfl rfl dX14_sentence_9 (fun H locs hR hS => ?_)
  refine lv_aload_n hx hb dX14_sentence_12 rfl (lv_at hl 0 rfl) ?_
  refine lv_iconst (v := 0) hx hb dX14_sentence_13 li_0 ?_
  refine n_puti (li' := [(1100, o, rr1.1), (1102, o, rr1.2.1), (1103, o, rr1.2.2.1), (1104, o, rr1.2.2.2.1), (1105, o, rr1.2.2.2.2.1), (1106, o, rr1.2.2.2.2.2.1), (1107, o, rr1.2.2.2.2.2.2.1), (1108, o, rr1.2.2.2.2.2.2.2.1), (1109, o, rr1.2.2.2.2.2.2.2.2.1), (1110, o, rr1.2.2.2.2.2.2.2.2.2.1), (1111, o, i_at), (1113, o, i_told), (1122, o, rr1.2.2.2.2.2.2.2.2.2.2.1), (1187, o, (0 : Int32)), (1188, o, (0 : Int32)), (1189, o, i_within), (1190, o, i_top)]) hx hb hts hown hG hR hS gPi_X14_518_11 shM.1 14 rfl rfl rfl dX14_sentence_14 (fun H locs hR hS => ?_)
  refine lv_aload_n hx hb dX14_sentence_17 rfl (lv_at hl 0 rfl) ?_
  refine lv_iconst (v := 0) hx hb dX14_sentence_18 li_0 ?_
  refine n_puti (li' := [(1100, o, rr1.1), (1102, o, rr1.2.1), (1103, o, rr1.2.2.1), (1104, o, rr1.2.2.2.1), (1105, o, rr1.2.2.2.2.1), (1106, o, rr1.2.2.2.2.2.1), (1107, o, rr1.2.2.2.2.2.2.1), (1108, o, rr1.2.2.2.2.2.2.2.1), (1109, o, rr1.2.2.2.2.2.2.2.2.1), (1110, o, rr1.2.2.2.2.2.2.2.2.2.1), (1111, o, i_at), (1113, o, i_told), (1122, o, rr1.2.2.2.2.2.2.2.2.2.2.1), (1187, o, (0 : Int32)), (1188, o, (0 : Int32)), (1189, o, (0 : Int32)), (1190, o, i_top)]) hx hb hts hown hG hR hS gPi_X14_521_11 shM.1 15 rfl rfl rfl dX14_sentence_19 (fun H locs hR hS => ?_)
  refine lv_aload_n hx hb dX14_sentence_22 rfl (lv_at hl 0 rfl) ?_
  obtain ⟨rr2, hrr2, hf⟩ := bind_s hf
  refine g0_cV (rm := (64, 1469)) (As := []) (rest := []) ⟨hx, hb, hml, hown, hts⟩ hG hR hS (m14_readOr l 60 G K (ov I [(1100, o, rr1.1), (1102, o, rr1.2.1), (1103, o, rr1.2.2.1), (1104, o, rr1.2.2.2.1), (1105, o, rr1.2.2.2.2.1), (1106, o, rr1.2.2.2.2.2.1), (1107, o, rr1.2.2.2.2.2.2.1), (1108, o, rr1.2.2.2.2.2.2.2.1), (1109, o, rr1.2.2.2.2.2.2.2.2.1), (1110, o, rr1.2.2.2.2.2.2.2.2.2.1), (1111, o, i_at), (1113, o, i_told), (1122, o, rr1.2.2.2.2.2.2.2.2.2.2.1), (1187, o, (0 : Int32)), (1188, o, (0 : Int32)), (1189, o, (0 : Int32)), (1190, o, i_top)]) (ov J [(1112, o, rr1.2.2.2.2.2.2.2.2.2.2.2.1)]) X (ova A [((o + 1), a_tape), ((o + 2), rr1.2.2.2.2.2.2.2.2.2.2.2.2), ((o + 44), a_node)]) B Q o shM rr1.2.2.1 rr1.2.2.2.1 rr1.2.2.2.2.1 rr1.2.2.2.2.2.1 rr1.2.2.2.2.2.2.1 rr1.2.2.2.2.2.2.2.1 rr1.2.2.2.2.2.2.2.2.1 rr1.2.2.2.2.2.2.2.2.2.1 i_at i_told (0 : Int32) (0 : Int32) (0 : Int32) i_top rr1.2.2.2.2.2.2.2.2.2.2.2.1 a_tape a_node (ov_get 2 rfl rfl) (ov_get 3 rfl rfl) (ov_get 4 rfl rfl) (ov_get 5 rfl rfl) (ov_get 6 rfl rfl) (ov_get 7 rfl rfl) (ov_get 8 rfl rfl) (ov_get 9 rfl rfl) (ov_get 10 rfl rfl) (ov_get 11 rfl rfl) (ov_get 13 rfl rfl) (ov_get 14 rfl rfl) (ov_get 15 rfl rfl) (ov_get 16 rfl rfl) (ov_get 0 rfl rfl) (ova_get 0 hN_A rfl) (ova_get 2 hN_A rfl) rr2 hrr2) (cwV 0 hts gi_X14_533 rfl rfl rfl hd_X14_readOr ⟨Nat.le_of_ble_eq_true rfl, Nat.le_of_ble_eq_true rfl⟩) shM.1 rfl rfl hl.1 (Nat.le_of_ble_eq_true rfl) dX14_sentence_23 ⟨Nat.le_refl _, Nat.le_refl _⟩ rfl (fun H locs hR hS => ?_)
  have hR : RS G K (ov I [(1100, o, rr1.1), (1102, o, rr1.2.1), (1103, o, rr1.2.2.1), (1104, o, rr1.2.2.2.1), (1105, o, rr2.2.1), (1106, o, rr2.2.2.1), (1107, o, rr2.2.2.2.1), (1108, o, rr2.2.2.2.2.1), (1109, o, rr2.2.2.2.2.2.1), (1110, o, rr2.2.2.2.2.2.2.1), (1111, o, rr2.2.2.2.2.2.2.2.1), (1113, o, rr2.2.2.2.2.2.2.2.2.1), (1122, o, rr1.2.2.2.2.2.2.2.2.2.2.1), (1187, o, rr2.2.2.2.2.2.2.2.2.2.1), (1188, o, rr2.2.2.2.2.2.2.2.2.2.2.1), (1189, o, rr2.2.2.2.2.2.2.2.2.2.2.2.1), (1190, o, rr2.2.2.2.2.2.2.2.2.2.2.2.2.1)]) (ov J [(1112, o, rr2.2.2.2.2.2.2.2.2.2.2.2.2.2.1)]) X (ova A [((o + 1), a_tape), ((o + 2), rr1.2.2.2.2.2.2.2.2.2.2.2.2), ((o + 44), rr2.2.2.2.2.2.2.2.2.2.2.2.2.2.2)]) B Q H := hR.to (ov_merge (l := [(1100, o, rr1.1), (1102, o, rr1.2.1), (1103, o, rr1.2.2.1), (1104, o, rr1.2.2.2.1), (1105, o, rr1.2.2.2.2.1), (1106, o, rr1.2.2.2.2.2.1), (1107, o, rr1.2.2.2.2.2.2.1), (1108, o, rr1.2.2.2.2.2.2.2.1), (1109, o, rr1.2.2.2.2.2.2.2.2.1), (1110, o, rr1.2.2.2.2.2.2.2.2.2.1), (1111, o, i_at), (1113, o, i_told), (1122, o, rr1.2.2.2.2.2.2.2.2.2.2.1), (1187, o, (0 : Int32)), (1188, o, (0 : Int32)), (1189, o, (0 : Int32)), (1190, o, i_top)]) rfl [4, 5, 6, 7, 8, 9, 10, 11, 13, 14, 15, 16] [(1105, o, rr2.2.1), (1106, o, rr2.2.2.1), (1107, o, rr2.2.2.2.1), (1108, o, rr2.2.2.2.2.1), (1109, o, rr2.2.2.2.2.2.1), (1110, o, rr2.2.2.2.2.2.2.1), (1111, o, rr2.2.2.2.2.2.2.2.1), (1113, o, rr2.2.2.2.2.2.2.2.2.1), (1187, o, rr2.2.2.2.2.2.2.2.2.2.1), (1188, o, rr2.2.2.2.2.2.2.2.2.2.2.1), (1189, o, rr2.2.2.2.2.2.2.2.2.2.2.2.1), (1190, o, rr2.2.2.2.2.2.2.2.2.2.2.2.2.1)] rfl rfl) (ov_merge (l := [(1112, o, rr1.2.2.2.2.2.2.2.2.2.2.2.1)]) rfl [0] [(1112, o, rr2.2.2.2.2.2.2.2.2.2.2.2.2.2.1)] rfl rfl) rfl (ova_merge (l := [((o + 1), a_tape), ((o + 2), rr1.2.2.2.2.2.2.2.2.2.2.2.2), ((o + 44), a_node)]) hN_A [0, 2] [((o + 1), a_tape), ((o + 44), rr2.2.2.2.2.2.2.2.2.2.2.2.2.2.2)] rfl rfl) rfl rfl
  refine lv_if_ne (tgt := 36) hx hb dX14_sentence_26 (by decide) (fun c3 => ?_) (fun c3 => ?_)
  · have hf := ite_f c3 hf
    refine lv_aload_n hx hb dX14_sentence_36 rfl (lv_at hl 0 rfl) ?_
    refine n_geti (v := rr2.2.2.2.1) hx hb hts hown hG hR gFi_X14_170_11 shM.1 (ov_get 6 rfl rfl) dX14_sentence_37 ?_
    refine lv_if_eq (tgt := 56) hx hb dX14_sentence_40 (by decide) (fun c4 => ?_) (fun c4 => ?_)
    · have hf := ite_t c4 hf
      refine lv_aload_n hx hb dX14_sentence_56 rfl (lv_at hl 0 rfl) ?_
      refine g_getr (b := (o + 2)) hx hb hts hown hG hR gFx_X14_13_11 shM.1 ((shM.2 1 _ rfl).2) dX14_sentence_57 ?_
      refine lv_sipush (v := 540) hx hb dX14_sentence_60 ls_540 ?_
      refine lv_iconst (v := 1) hx hb dX14_sentence_63 li_1 ?_
      obtain ⟨c5, hf⟩ := gd_some hf
      obtain ⟨u6, eu6, hf⟩ := lt_some hf
      refine n_iast (la' := [((o + 1), a_tape), ((o + 2), u6), ((o + 44), rr2.2.2.2.2.2.2.2.2.2.2.2.2.2.2)]) hx hb hG hR hS k_a_now c5 hN_A 1 rfl eu6 rfl dX14_sentence_64 (fun H locs hR hS => ?_)
      refine lv_aload_n hx hb dX14_sentence_65 rfl (lv_at hl 0 rfl) ?_
      refine g_getr (b := (o + 2)) hx hb hts hown hG hR gFx_X14_13_11 shM.1 ((shM.2 1 _ rfl).2) dX14_sentence_66 ?_
      refine lv_sipush (v := 541) hx hb dX14_sentence_69 ls_541 ?_
      refine lv_aload_n hx hb dX14_sentence_72 rfl (lv_at hl 0 rfl) ?_
      refine n_geti (v := rr2.2.2.2.2.2.2.2.2.2.2.2.2.1) hx hb hts hown hG hR gFi_X14_509_11 shM.1 (ov_get 16 rfl rfl) dX14_sentence_73 ?_
      obtain ⟨c7, hf⟩ := gd_some hf
      obtain ⟨u8, eu8, hf⟩ := lt_some hf
      refine n_iast (la' := [((o + 1), a_tape), ((o + 2), u8), ((o + 44), rr2.2.2.2.2.2.2.2.2.2.2.2.2.2.2)]) hx hb hG hR hS k_a_now c7 hN_A 1 rfl eu8 rfl dX14_sentence_76 (fun H locs hR hS => ?_)
      refine lv_iconst (v := 0) hx hb dX14_sentence_77 li_0 ?_
      refine lv_istore_n (lv' := [(1, .int (0 : Int32)), (0, .ref o)]) hx hb dX14_sentence_78 rfl hl (by decide) rfl (fun ls hl => ?_)
      obtain ⟨rl9, hw9, hfo9⟩ := bind_s hf
      have hx9_0 : ∀ (x9_0 : (Nat → Int32)), f14_sentence_e9_0 rr1 rr2 x9_0 = some out → ∀ (H : Heap) (locs : List Loc) (ls : Array Slot), RS G K (ov I [(1100, o, rr1.1), (1102, o, rr1.2.1), (1103, o, rr1.2.2.1), (1104, o, rr1.2.2.2.1), (1105, o, rr2.2.1), (1106, o, rr2.2.2.1), (1107, o, rr2.2.2.2.1), (1108, o, rr2.2.2.2.2.1), (1109, o, rr2.2.2.2.2.2.1), (1110, o, rr2.2.2.2.2.2.2.1), (1111, o, rr2.2.2.2.2.2.2.2.1), (1113, o, rr2.2.2.2.2.2.2.2.2.1), (1122, o, rr1.2.2.2.2.2.2.2.2.2.2.1), (1187, o, rr2.2.2.2.2.2.2.2.2.2.1), (1188, o, rr2.2.2.2.2.2.2.2.2.2.2.1), (1189, o, rr2.2.2.2.2.2.2.2.2.2.2.2.1), (1190, o, rr2.2.2.2.2.2.2.2.2.2.2.2.2.1)]) (ov J [(1112, o, rr2.2.2.2.2.2.2.2.2.2.2.2.2.2.1)]) X (ova A [((o + 1), a_tape), ((o + 2), x9_0), ((o + 44), rr2.2.2.2.2.2.2.2.2.2.2.2.2.2.2)]) B Q H → va_S (gA G) s.heap H locs → lv_has ls 2 [(0, .ref o)] → W p l e ({ frames := 65, cells := 0, slots := 0, locals := 1490 } : Room) s m args below meth c H locs 0 0 Z (F0 m 108 ls []) := by
        intro x9_0 hf H locs ls hR hS hl
        unfold f14_sentence_e9_0 at hf
        refine lv_aload_n hx hb dX14_sentence_108 rfl (lv_at hl 0 rfl) ?_
        refine n_geti (v := rr2.2.2.2.2.2.2.2.2.2.2.1) hx hb hts hown hG hR gFi_X14_518_11 shM.1 (ov_get 14 rfl rfl) dX14_sentence_109 ?_
        obtain rfl := some_i hf
        exact hend _ _ _ _ dX14_sentence_112 hR hS
      refine whl_walk (P := fun (s9 : Int32 × (Nat → Int32)) => ∀ (H : Heap) (locs : List Loc) (ls : Array Slot), RS G K (ov I [(1100, o, rr1.1), (1102, o, rr1.2.1), (1103, o, rr1.2.2.1), (1104, o, rr1.2.2.2.1), (1105, o, rr2.2.1), (1106, o, rr2.2.2.1), (1107, o, rr2.2.2.2.1), (1108, o, rr2.2.2.2.2.1), (1109, o, rr2.2.2.2.2.2.1), (1110, o, rr2.2.2.2.2.2.2.1), (1111, o, rr2.2.2.2.2.2.2.2.1), (1113, o, rr2.2.2.2.2.2.2.2.2.1), (1122, o, rr1.2.2.2.2.2.2.2.2.2.2.1), (1187, o, rr2.2.2.2.2.2.2.2.2.2.1), (1188, o, rr2.2.2.2.2.2.2.2.2.2.2.1), (1189, o, rr2.2.2.2.2.2.2.2.2.2.2.2.1), (1190, o, rr2.2.2.2.2.2.2.2.2.2.2.2.2.1)]) (ov J [(1112, o, rr2.2.2.2.2.2.2.2.2.2.2.2.2.2.1)]) X (ova A [((o + 1), a_tape), ((o + 2), s9.2), ((o + 44), rr2.2.2.2.2.2.2.2.2.2.2.2.2.2.2)]) B Q H → va_S (gA G) s.heap H locs → lv_has ls 2 [(0, .ref o), (1, .int s9.1)] → W p l e ({ frames := 65, cells := 0, slots := 0, locals := 1490 } : Room) s m args below meth c H locs 0 0 Z (F0 m 79 ls [])) (r := rl9) ?_ FU _ hw9 _ _ _ hR hS (lv_sub hl [1, 0] rfl)
      clear hR hS hl hf
      intro s9 o9 hf hk9 H locs ls hR hS hl
      obtain ⟨w9_1, w9_a_now⟩ := s9
      have hf : f14_sentence_s9 rr2 w9_1 w9_a_now = some o9 := hf
      have hR : RS G K (ov I [(1100, o, rr1.1), (1102, o, rr1.2.1), (1103, o, rr1.2.2.1), (1104, o, rr1.2.2.2.1), (1105, o, rr2.2.1), (1106, o, rr2.2.2.1), (1107, o, rr2.2.2.2.1), (1108, o, rr2.2.2.2.2.1), (1109, o, rr2.2.2.2.2.2.1), (1110, o, rr2.2.2.2.2.2.2.1), (1111, o, rr2.2.2.2.2.2.2.2.1), (1113, o, rr2.2.2.2.2.2.2.2.2.1), (1122, o, rr1.2.2.2.2.2.2.2.2.2.2.1), (1187, o, rr2.2.2.2.2.2.2.2.2.2.1), (1188, o, rr2.2.2.2.2.2.2.2.2.2.2.1), (1189, o, rr2.2.2.2.2.2.2.2.2.2.2.2.1), (1190, o, rr2.2.2.2.2.2.2.2.2.2.2.2.2.1)]) (ov J [(1112, o, rr2.2.2.2.2.2.2.2.2.2.2.2.2.2.1)]) X (ova A [((o + 1), a_tape), ((o + 2), w9_a_now), ((o + 44), rr2.2.2.2.2.2.2.2.2.2.2.2.2.2.2)]) B Q H := hR
      have hl : lv_has ls 2 [(0, .ref o), (1, .int w9_1)] := hl
      unfold f14_sentence_s9 at hf
      refine lv_iload_n hx hb dX14_sentence_79 rfl (lv_at hl 1 rfl) ?_
      refine lv_sipush (v := 240) hx hb dX14_sentence_80 ls_240 ?_
      refine lv_icmp_ge (tgt := 108) hx hb dX14_sentence_83 (by decide) (fun c10 => ?_) (fun c10 => ?_)
      · have hf := ite_t c10 hf
        obtain rfl := some_i hf
        replace hk9 : _ = rl9 := hk9
        subst hk9
        exact hx9_0 w9_a_now hfo9 _ _ _ hR hS (lv_sub hl [0] rfl)
      · have hf := ite_f c10 hf
        refine lv_aload_n hx hb dX14_sentence_86 rfl (lv_at hl 0 rfl) ?_
        refine g_getr (b := (o + 2)) hx hb hts hown hG hR gFx_X14_13_11 shM.1 ((shM.2 1 _ rfl).2) dX14_sentence_87 ?_
        refine lv_sipush (v := 550) hx hb dX14_sentence_90 ls_550 ?_
        refine lv_iload_n hx hb dX14_sentence_93 rfl (lv_at hl 1 rfl) ?_
        obtain ⟨v11, ev11, hf⟩ := lt_some hf
        refine n_iadd hx hb ev11 dX14_sentence_94 ?_
        refine lv_aload_n hx hb dX14_sentence_95 rfl (lv_at hl 0 rfl) ?_
        refine g_getr (b := (o + 44)) hx hb hts hown hG hR gFx_X14_145_11 shM.1 ((shM.2 43 _ rfl).2) dX14_sentence_96 ?_
        refine lv_iload_n hx hb dX14_sentence_99 rfl (lv_at hl 1 rfl) ?_
        obtain ⟨c12, hf⟩ := gd_some hf
        obtain ⟨v13, ev13, hf⟩ := lt_some hf
        refine n_iald (x := rr2.2.2.2.2.2.2.2.2.2.2.2.2.2.2) hx hb hG hR k_a_node c12 (ova_get 2 hN_A rfl) ev13 dX14_sentence_100 ?_
        obtain ⟨c14, hf⟩ := gd_some hf
        obtain ⟨u15, eu15, hf⟩ := lt_some hf
        refine n_iast (la' := [((o + 1), a_tape), ((o + 2), u15), ((o + 44), rr2.2.2.2.2.2.2.2.2.2.2.2.2.2.2)]) hx hb hG hR hS k_a_now c14 hN_A 1 rfl eu15 rfl dX14_sentence_101 (fun H locs hR hS => ?_)
        obtain ⟨v16, ev16, hf⟩ := lt_some hf
        refine lv_iinc (k := 1) (v := v16) (lv' := [(1, .int v16), (0, .ref o)]) hx hb dX14_sentence_102 hl rfl (by rw [ev16]; rfl) (by decide) rfl (fun ls hl => ?_)
        refine lv_goto (tgt := 79) hx hb dX14_sentence_105 (by decide) ?_
        obtain rfl := some_i hf
        exact hk9 _ _ _ hR hS (lv_sub hl [1, 0] rfl)
    · have hf := ite_f c4 hf
      refine lv_aload_n hx hb dX14_sentence_43 rfl (lv_at hl 0 rfl) ?_
      refine lv_iconst (v := 1) hx hb dX14_sentence_44 li_1 ?_
      obtain ⟨rr17, hrr17, hf⟩ := bind_s hf
      refine g0_cV (rm := (0, 0)) (As := [.int (1 : Int32)]) (rest := []) ⟨hx, hb, hml, hown, hts⟩ hG hR hS (m14_bad l G K (ov I [(1100, o, rr1.1), (1102, o, rr1.2.1), (1103, o, rr1.2.2.1), (1104, o, rr1.2.2.2.1), (1105, o, rr2.2.1), (1106, o, rr2.2.2.1), (1107, o, rr2.2.2.2.1), (1108, o, rr2.2.2.2.2.1), (1109, o, rr2.2.2.2.2.2.1), (1110, o, rr2.2.2.2.2.2.2.1), (1111, o, rr2.2.2.2.2.2.2.2.1), (1113, o, rr2.2.2.2.2.2.2.2.2.1), (1122, o, rr1.2.2.2.2.2.2.2.2.2.2.1), (1187, o, rr2.2.2.2.2.2.2.2.2.2.1), (1188, o, rr2.2.2.2.2.2.2.2.2.2.2.1), (1189, o, rr2.2.2.2.2.2.2.2.2.2.2.2.1), (1190, o, rr2.2.2.2.2.2.2.2.2.2.2.2.2.1)]) (ov J [(1112, o, rr2.2.2.2.2.2.2.2.2.2.2.2.2.2.1)]) X (ova A [((o + 1), a_tape), ((o + 2), rr1.2.2.2.2.2.2.2.2.2.2.2.2), ((o + 44), rr2.2.2.2.2.2.2.2.2.2.2.2.2.2.2)]) B Q o shM (1 : Int32) rr2.2.2.1 rr2.2.2.2.1 rr2.2.2.2.2.2.2.1 rr2.2.2.2.2.2.2.2.1 (ov_get 5 rfl rfl) (ov_get 6 rfl rfl) (ov_get 9 rfl rfl) (ov_get 10 rfl rfl) rr17 hrr17) (cwV 1 hts gi_X14_216 rfl rfl rfl hd_X14_bad ⟨Nat.le_of_ble_eq_true rfl, Nat.le_of_ble_eq_true rfl⟩) shM.1 rfl rfl hl.1 (Nat.le_of_ble_eq_true rfl) dX14_sentence_45 ⟨Nat.le_refl _, Nat.le_refl _⟩ rfl (fun H locs hR hS => ?_)
      have hR : RS G K (ov I [(1100, o, rr1.1), (1102, o, rr1.2.1), (1103, o, rr1.2.2.1), (1104, o, rr1.2.2.2.1), (1105, o, rr2.2.1), (1106, o, rr2.2.2.1), (1107, o, rr2.2.2.2.1), (1108, o, rr2.2.2.2.2.1), (1109, o, rr2.2.2.2.2.2.1), (1110, o, rr17.2.1), (1111, o, rr17.2.2), (1113, o, rr2.2.2.2.2.2.2.2.2.1), (1122, o, rr1.2.2.2.2.2.2.2.2.2.2.1), (1187, o, rr2.2.2.2.2.2.2.2.2.2.1), (1188, o, rr2.2.2.2.2.2.2.2.2.2.2.1), (1189, o, rr2.2.2.2.2.2.2.2.2.2.2.2.1), (1190, o, rr2.2.2.2.2.2.2.2.2.2.2.2.2.1)]) (ov J [(1112, o, rr2.2.2.2.2.2.2.2.2.2.2.2.2.2.1)]) X (ova A [((o + 1), a_tape), ((o + 2), rr1.2.2.2.2.2.2.2.2.2.2.2.2), ((o + 44), rr2.2.2.2.2.2.2.2.2.2.2.2.2.2.2)]) B Q H := hR.to (ov_merge (l := [(1100, o, rr1.1), (1102, o, rr1.2.1), (1103, o, rr1.2.2.1), (1104, o, rr1.2.2.2.1), (1105, o, rr2.2.1), (1106, o, rr2.2.2.1), (1107, o, rr2.2.2.2.1), (1108, o, rr2.2.2.2.2.1), (1109, o, rr2.2.2.2.2.2.1), (1110, o, rr2.2.2.2.2.2.2.1), (1111, o, rr2.2.2.2.2.2.2.2.1), (1113, o, rr2.2.2.2.2.2.2.2.2.1), (1122, o, rr1.2.2.2.2.2.2.2.2.2.2.1), (1187, o, rr2.2.2.2.2.2.2.2.2.2.1), (1188, o, rr2.2.2.2.2.2.2.2.2.2.2.1), (1189, o, rr2.2.2.2.2.2.2.2.2.2.2.2.1), (1190, o, rr2.2.2.2.2.2.2.2.2.2.2.2.2.1)]) rfl [9, 10] [(1110, o, rr17.2.1), (1111, o, rr17.2.2)] rfl rfl) rfl rfl rfl rfl rfl
      refine lv_pop hx hb dX14_sentence_48 rfl ?_
      refine lv_iconst (v := -1) hx hb dX14_sentence_49 li_m1 ?_
      refine lv_aload_n hx hb dX14_sentence_50 rfl (lv_at hl 0 rfl) ?_
      refine n_geti (v := rr17.2.2) hx hb hts hown hG hR gFi_X14_213_11 shM.1 (ov_get 10 rfl rfl) dX14_sentence_51 ?_
      obtain ⟨v18, ev18, hf⟩ := lt_some hf
      refine n_isub hx hb ev18 dX14_sentence_54 ?_
      obtain rfl := some_i hf
      exact hend _ _ _ _ dX14_sentence_55 hR hS
  · have hf := ite_t c3 hf
    refine lv_iconst (v := -1) hx hb dX14_sentence_29 li_m1 ?_
    refine lv_aload_n hx hb dX14_sentence_30 rfl (lv_at hl 0 rfl) ?_
    refine n_geti (v := rr2.2.2.2.2.2.2.2.1) hx hb hts hown hG hR gFi_X14_213_11 shM.1 (ov_get 10 rfl rfl) dX14_sentence_31 ?_
    obtain ⟨v19, ev19, hf⟩ := lt_some hf
    refine n_isub hx hb ev19 dX14_sentence_34 ?_
    obtain rfl := some_i hf
    exact hend _ _ _ _ dX14_sentence_35 hR hS
