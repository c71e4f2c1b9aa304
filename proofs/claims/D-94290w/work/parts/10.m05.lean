/-! the walks of PailRowModel (printed by tools) 5 -/
set_option maxRecDepth 100000
noncomputable def f14_plan_e3_0 (rr1 : Int32 × Int32 × Int32 × Int32 × Int32 × Int32 × Int32 × Int32 × Int32 × Int32 × Int32 × Int64 × (Nat → Int32)) (x2_0 : Int32 × Int32 × Int32 × Int32 × Int32 × Int32 × Int32 × Int32 × Int32 × Int64 × (Nat → Int32)) (x3_0 : (Nat → Int32)) : Option (Int32 × Int32 × Int32 × Int32 × Int32 × Int32 × Int32 × Int32 × Int32 × Int32 × Int32 × Int32 × Int32 × Int32 × Int32 × Int64 × (Nat → Int32) × (Nat → Int32)) :=
  gd (inb (200 : Int32) 800) <|
  lt (upd x3_0 (200 : Int32).toNatClampNeg x2_0.2.2.2.2.2.2.2.2.1) fun u5 =>
  some (x2_0.2.2.2.2.2.2.2.2.1, rr1.1, rr1.2.1, rr1.2.2.1, rr1.2.2.2.1, x2_0.1, x2_0.2.1, x2_0.2.2.1, x2_0.2.2.2.1, x2_0.2.2.2.2.1, x2_0.2.2.2.2.2.1, x2_0.2.2.2.2.2.2.1, x2_0.2.2.2.2.2.2.2.1, rr1.2.2.2.2.2.2.2.2.2.2.1, x2_0.2.2.2.2.2.2.2.2.1, x2_0.2.2.2.2.2.2.2.2.2.1, u5, x2_0.2.2.2.2.2.2.2.2.2.2)

noncomputable def f14_plan_s3 (x2_0 : Int32 × Int32 × Int32 × Int32 × Int32 × Int32 × Int32 × Int32 × Int32 × Int64 × (Nat → Int32)) (w3_1 : Int32) (w3_a_now : Nat → Int32) : Option ((Int32 × (Nat → Int32)) ⊕ ((Nat → Int32))) :=
  lt ((16 : Int32) * x2_0.2.2.2.2.2.2.2.2.1) fun v6 =>
  if v6 ≤ w3_1 then
    some (.inr w3_a_now)
  else
    lt ((210 : Int32) + w3_1) fun v8 =>
    gd (inb w3_1 320) <|
    lt (x2_0.2.2.2.2.2.2.2.2.2.2 w3_1.toNatClampNeg) fun v10 =>
    gd (inb v8 800) <|
    lt (upd w3_a_now v8.toNatClampNeg v10) fun u12 =>
    lt (w3_1 + (1 : Int32)) fun v13 =>
    some (.inl (v13, u12))

noncomputable def f14_plan_e2_0 (rr1 : Int32 × Int32 × Int32 × Int32 × Int32 × Int32 × Int32 × Int32 × Int32 × Int32 × Int32 × Int64 × (Nat → Int32)) (x2_0 : Int32 × Int32 × Int32 × Int32 × Int32 × Int32 × Int32 × Int32 × Int32 × Int64 × (Nat → Int32)) : Option (Int32 × Int32 × Int32 × Int32 × Int32 × Int32 × Int32 × Int32 × Int32 × Int32 × Int32 × Int32 × Int32 × Int32 × Int32 × Int64 × (Nat → Int32) × (Nat → Int32)) :=
  (whl (fun (s3 : Int32 × (Nat → Int32)) => f14_plan_s3 x2_0 s3.1 s3.2) FU ((0 : Int32), rr1.2.2.2.2.2.2.2.2.2.2.2.2)).bind fun rl3 =>
  f14_plan_e3_0 rr1 x2_0 rl3

noncomputable def f14_plan_e2_1 (rr1 : Int32 × Int32 × Int32 × Int32 × Int32 × Int32 × Int32 × Int32 × Int32 × Int32 × Int32 × Int64 × (Nat → Int32)) (x2_1 : Int32 × Int32 × Int32 × Int32 × Int32 × Int32 × Int32 × Int32 × Int32 × Int64 × (Nat → Int32)) : Option (Int32 × Int32 × Int32 × Int32 × Int32 × Int32 × Int32 × Int32 × Int32 × Int32 × Int32 × Int32 × Int32 × Int32 × Int32 × Int64 × (Nat → Int32) × (Nat → Int32)) :=
  lt ((-1 : Int32) - x2_1.2.2.2.2.2.2.1) fun v14 =>
  some (v14, rr1.1, rr1.2.1, rr1.2.2.1, rr1.2.2.2.1, x2_1.1, x2_1.2.1, x2_1.2.2.1, x2_1.2.2.2.1, x2_1.2.2.2.2.1, x2_1.2.2.2.2.2.1, x2_1.2.2.2.2.2.2.1, x2_1.2.2.2.2.2.2.2.1, rr1.2.2.2.2.2.2.2.2.2.2.1, x2_1.2.2.2.2.2.2.2.2.1, x2_1.2.2.2.2.2.2.2.2.2.1, rr1.2.2.2.2.2.2.2.2.2.2.2.2, x2_1.2.2.2.2.2.2.2.2.2.2)

noncomputable def f14_plan_s2 (a_tape : Nat → Int32) (b_name : Nat → Int64) (rr1 : Int32 × Int32 × Int32 × Int32 × Int32 × Int32 × Int32 × Int32 × Int32 × Int32 × Int32 × Int64 × (Nat → Int32)) (w2_i_to : Int32) (w2_i_from : Int32) (w2_i_kind : Int32) (w2_i_number : Int32) (w2_i_sign : Int32) (w2_i_fault : Int32) (w2_i_at : Int32) (w2_i_told : Int32) (w2_i_planMany : Int32) (w2_j_word : Int64) (w2_a_plan : Nat → Int32) : Option ((Int32 × Int32 × Int32 × Int32 × Int32 × Int32 × Int32 × Int32 × Int32 × Int64 × (Nat → Int32)) ⊕ ((Int32 × Int32 × Int32 × Int32 × Int32 × Int32 × Int32 × Int32 × Int32 × Int64 × (Nat → Int32)) ⊕ (Int32 × Int32 × Int32 × Int32 × Int32 × Int32 × Int32 × Int32 × Int32 × Int64 × (Nat → Int32)))) :=
  if w2_i_kind = 0 then
    some (.inr (.inl (w2_i_to, w2_i_from, w2_i_kind, w2_i_number, w2_i_sign, w2_i_fault, w2_i_at, w2_i_told, w2_i_planMany, w2_j_word, w2_a_plan)))
  else
    (f14_readTold rr1.2.2.1 rr1.2.2.2.1 w2_i_to w2_i_from w2_i_kind w2_i_number w2_i_sign w2_i_fault w2_i_at w2_i_told w2_i_planMany w2_j_word a_tape rr1.2.2.2.2.2.2.2.2.2.2.2.2 w2_a_plan b_name).bind fun rr16 =>
    if rr16.1 = 0 then
      some (.inr (.inr (rr16.2.1, rr16.2.2.1, rr16.2.2.2.1, rr16.2.2.2.2.1, rr16.2.2.2.2.2.1, rr16.2.2.2.2.2.2.1, rr16.2.2.2.2.2.2.2.1, rr16.2.2.2.2.2.2.2.2.1, rr16.2.2.2.2.2.2.2.2.2.1, rr16.2.2.2.2.2.2.2.2.2.2.1, rr16.2.2.2.2.2.2.2.2.2.2.2)))
    else
      some (.inl (rr16.2.1, rr16.2.2.1, rr16.2.2.2.1, rr16.2.2.2.2.1, rr16.2.2.2.2.2.1, rr16.2.2.2.2.2.2.1, rr16.2.2.2.2.2.2.2.1, rr16.2.2.2.2.2.2.2.2.1, rr16.2.2.2.2.2.2.2.2.2.1, rr16.2.2.2.2.2.2.2.2.2.2.1, rr16.2.2.2.2.2.2.2.2.2.2.2))

noncomputable def f14_plan (i_thrown : Int32) (i_taped : Int32) (i_size : Int32) (i_limit : Int32) (i_to : Int32) (i_from : Int32) (i_kind : Int32) (i_number : Int32) (i_sign : Int32) (i_fault : Int32) (i_at : Int32) (i_told : Int32) (i_isBegun : Int32) (i_planMany : Int32) (j_word : Int64) (a_tape : Nat → Int32) (a_now : Nat → Int32) (a_plan : Nat → Int32) (b_name : Nat → Int64) : Option (Int32 × Int32 × Int32 × Int32 × Int32 × Int32 × Int32 × Int32 × Int32 × Int32 × Int32 × Int32 × Int32 × Int32 × Int32 × Int64 × (Nat → Int32) × (Nat → Int32)) :=
  (f14_begin (400 : Int32) i_thrown i_taped i_size i_limit i_to i_from i_kind i_number i_sign i_fault i_isBegun j_word a_tape a_now).bind fun rr1 =>
  (whl (fun (s2 : Int32 × Int32 × Int32 × Int32 × Int32 × Int32 × Int32 × Int32 × Int32 × Int64 × (Nat → Int32)) => f14_plan_s2 a_tape b_name rr1 s2.1 s2.2.1 s2.2.2.1 s2.2.2.2.1 s2.2.2.2.2.1 s2.2.2.2.2.2.1 s2.2.2.2.2.2.2.1 s2.2.2.2.2.2.2.2.1 s2.2.2.2.2.2.2.2.2.1 s2.2.2.2.2.2.2.2.2.2.1 s2.2.2.2.2.2.2.2.2.2.2) FU (rr1.2.2.2.2.1, rr1.2.2.2.2.2.1, rr1.2.2.2.2.2.2.1, rr1.2.2.2.2.2.2.2.1, rr1.2.2.2.2.2.2.2.2.1, rr1.2.2.2.2.2.2.2.2.2.1, i_at, i_told, (0 : Int32), rr1.2.2.2.2.2.2.2.2.2.2.2.1, a_plan)).bind fun rl2 =>
  Sum.elim (f14_plan_e2_0 rr1) (f14_plan_e2_1 rr1) rl2
set_option maxHeartbeats 4000000 in
theorem m14_plan (l : Launch) (G : gG) (K : gK) (I : gI) (J : gJ) (X : gX) (A : gI) (B : gJ) (Q : gX) (o : Nat) (shM : Sh K X o 11 rows11)  (i_thrown : Int32) (i_taped : Int32) (i_size : Int32) (i_limit : Int32) (i_to : Int32) (i_from : Int32) (i_kind : Int32) (i_number : Int32) (i_sign : Int32) (i_fault : Int32) (i_at : Int32) (i_told : Int32) (i_isBegun : Int32) (i_planMany : Int32) (j_word : Int64) (a_tape : Nat → Int32) (a_now : Nat → Int32) (a_plan : Nat → Int32) (b_name : Nat → Int64) (e_i_thrown : I 1100 o = i_thrown) (e_i_taped : I 1102 o = i_taped) (e_i_size : I 1103 o = i_size) (e_i_limit : I 1104 o = i_limit) (e_i_to : I 1105 o = i_to) (e_i_from : I 1106 o = i_from) (e_i_kind : I 1107 o = i_kind) (e_i_number : I 1108 o = i_number) (e_i_sign : I 1109 o = i_sign) (e_i_fault : I 1110 o = i_fault) (e_i_at : I 1111 o = i_at) (e_i_told : I 1113 o = i_told) (e_i_isBegun : I 1122 o = i_isBegun) (e_i_planMany : I 1184 o = i_planMany) (e_j_word : J 1112 o = j_word) (e_a_tape : A (o + 1) = a_tape) (e_a_now : A (o + 2) = a_now) (e_a_plan : A (o + 4) = a_plan) (e_b_name : B (o + 6) = b_name) (out : Int32 × Int32 × Int32 × Int32 × Int32 × Int32 × Int32 × Int32 × Int32 × Int32 × Int32 × Int32 × Int32 × Int32 × Int32 × Int64 × (Nat → Int32) × (Nat → Int32)) (hf : f14_plan i_thrown i_taped i_size i_limit i_to i_from i_kind i_number i_sign i_fault i_at i_told i_isBegun i_planMany j_word a_tape a_now a_plan b_name = some out) : GMet l yX14_plan cX14_plan 2 (some .int) (5) (114) G [.ref o] K I J X A B Q (some (.int out.1)) K (ov I [(1100, o, out.2.1), (1102, o, out.2.2.1), (1103, o, out.2.2.2.1), (1104, o, out.2.2.2.2.1), (1105, o, out.2.2.2.2.2.1), (1106, o, out.2.2.2.2.2.2.1), (1107, o, out.2.2.2.2.2.2.2.1), (1108, o, out.2.2.2.2.2.2.2.2.1), (1109, o, out.2.2.2.2.2.2.2.2.2.1), (1110, o, out.2.2.2.2.2.2.2.2.2.2.1), (1111, o, out.2.2.2.2.2.2.2.2.2.2.2.1), (1113, o, out.2.2.2.2.2.2.2.2.2.2.2.2.1), (1122, o, out.2.2.2.2.2.2.2.2.2.2.2.2.2.1), (1184, o, out.2.2.2.2.2.2.2.2.2.2.2.2.2.2.1)]) (ov J [(1112, o, out.2.2.2.2.2.2.2.2.2.2.2.2.2.2.2.1)]) X (ova A [((o + 1), a_tape), ((o + 2), out.2.2.2.2.2.2.2.2.2.2.2.2.2.2.2.2.1), ((o + 4), out.2.2.2.2.2.2.2.2.2.2.2.2.2.2.2.2.2)]) B Q 0 0 := by
  refine GMet.of (y := yX14_plan) rfl (Nat.le_of_ble_eq_true rfl) rfl ?_
  intro p e s m below meth c ls hx hb hr hml hlocks hts hown hname hG hR hl
  have hown : s.vm.findClass RX14 = some m.cls := hown
  have k_a_tape : K (o + 1) = some (.inr (0, 740)) := (shM.2 0 _ rfl).1
  have k_a_now : K (o + 2) = some (.inr (0, 800)) := (shM.2 1 _ rfl).1
  have k_a_plan : K (o + 4) = some (.inr (0, 320)) := (shM.2 3 _ rfl).1
  have k_b_name : K (o + 6) = some (.inr (3, 12)) := (shM.2 5 _ rfl).1
  have hN_A : nda [(o + 1), (o + 2), (o + 4)] := nd_off o [1, 2, 4] rfl
  have hR : RS G K (ov I [(1100, o, i_thrown), (1102, o, i_taped), (1103, o, i_size), (1104, o, i_limit), (1105, o, i_to), (1106, o, i_from), (1107, o, i_kind), (1108, o, i_number), (1109, o, i_sign), (1110, o, i_fault), (1111, o, i_at), (1113, o, i_told), (1122, o, i_isBegun), (1184, o, i_planMany)]) (ov J [(1112, o, j_word)]) X (ova A [((o + 1), a_tape), ((o + 2), a_now), ((o + 4), a_plan)]) B Q s.heap := hR.to (Eq.symm (ov_sc e_i_thrown (ov_sc e_i_taped (ov_sc e_i_size (ov_sc e_i_limit (ov_sc e_i_to (ov_sc e_i_from (ov_sc e_i_kind (ov_sc e_i_number (ov_sc e_i_sign (ov_sc e_i_fault (ov_sc e_i_at (ov_sc e_i_told (ov_sc e_i_isBegun (ov_sc e_i_planMany rfl))))))))))))))) (Eq.symm (ov_sc e_j_word rfl)) rfl (Eq.symm (ova_sc e_a_tape (ova_sc e_a_now (ova_sc e_a_plan rfl)))) rfl rfl
  have hS : va_S (gA G) s.heap s.heap [] := va_S.rf
  have hend : ∀ (pc : Nat) (H : Heap) (locs : List Loc) (ls : Array Slot), decode cX14_plan pc = .ok (.ireturn, 1) → RS G K (ov I [(1100, o, out.2.1), (1102, o, out.2.2.1), (1103, o, out.2.2.2.1), (1104, o, out.2.2.2.2.1), (1105, o, out.2.2.2.2.2.1), (1106, o, out.2.2.2.2.2.2.1), (1107, o, out.2.2.2.2.2.2.2.1), (1108, o, out.2.2.2.2.2.2.2.2.1), (1109, o, out.2.2.2.2.2.2.2.2.2.1), (1110, o, out.2.2.2.2.2.2.2.2.2.2.1), (1111, o, out.2.2.2.2.2.2.2.2.2.2.2.1), (1113, o, out.2.2.2.2.2.2.2.2.2.2.2.2.1), (1122, o, out.2.2.2.2.2.2.2.2.2.2.2.2.2.1), (1184, o, out.2.2.2.2.2.2.2.2.2.2.2.2.2.2.1)]) (ov J [(1112, o, out.2.2.2.2.2.2.2.2.2.2.2.2.2.2.2.1)]) X (ova A [((o + 1), a_tape), ((o + 2), out.2.2.2.2.2.2.2.2.2.2.2.2.2.2.2.2.1), ((o + 4), out.2.2.2.2.2.2.2.2.2.2.2.2.2.2.2.2.2)]) B Q H → va_S (gA G) s.heap H locs → W p l e ({ frames := 5, cells := 0, slots := 0, locals := 114 } : Room) s m ([.ref o] : List Value).toArray below meth c H locs 0 0 (MQ below (gQ G (some (.int out.1)) K (ov I [(1100, o, out.2.1), (1102, o, out.2.2.1), (1103, o, out.2.2.2.1), (1104, o, out.2.2.2.2.1), (1105, o, out.2.2.2.2.2.1), (1106, o, out.2.2.2.2.2.2.1), (1107, o, out.2.2.2.2.2.2.2.1), (1108, o, out.2.2.2.2.2.2.2.2.1), (1109, o, out.2.2.2.2.2.2.2.2.2.1), (1110, o, out.2.2.2.2.2.2.2.2.2.2.1), (1111, o, out.2.2.2.2.2.2.2.2.2.2.2.1), (1113, o, out.2.2.2.2.2.2.2.2.2.2.2.2.1), (1122, o, out.2.2.2.2.2.2.2.2.2.2.2.2.2.1), (1184, o, out.2.2.2.2.2.2.2.2.2.2.2.2.2.2.1)]) (ov J [(1112, o, out.2.2.2.2.2.2.2.2.2.2.2.2.2.2.2.1)]) X (ova A [((o + 1), a_tape), ((o + 2), out.2.2.2.2.2.2.2.2.2.2.2.2.2.2.2.2.1), ((o + 4), out.2.2.2.2.2.2.2.2.2.2.2.2.2.2.2.2.2)]) B Q) ([.ref o] : List Value).toArray s 0 0 (gA G)) (F0 m pc ls [.int out.1]) := fun pc H locs ls hd hR hS => g_iret hx hb hr hlocks hG hR hS rfl hd
  generalize MQ below (gQ G (some (.int out.1)) K (ov I [(1100, o, out.2.1), (1102, o, out.2.2.1), (1103, o, out.2.2.2.1), (1104, o, out.2.2.2.2.1), (1105, o, out.2.2.2.2.2.1), (1106, o, out.2.2.2.2.2.2.1), (1107, o, out.2.2.2.2.2.2.2.1), (1108, o, out.2.2.2.2.2.2.2.2.1), (1109, o, out.2.2.2.2.2.2.2.2.2.1), (1110, o, out.2.2.2.2.2.2.2.2.2.2.1), (1111, o, out.2.2.2.2.2.2.2.2.2.2.2.1), (1113, o, out.2.2.2.2.2.2.2.2.2.2.2.2.1), (1122, o, out.2.2.2.2.2.2.2.2.2.2.2.2.2.1), (1184, o, out.2.2.2.2.2.2.2.2.2.2.2.2.2.2.1)]) (ov J [(1112, o, out.2.2.2.2.2.2.2.2.2.2.2.2.2.2.2.1)]) X (ova A [((o + 1), a_tape), ((o + 2), out.2.2.2.2.2.2.2.2.2.2.2.2.2.2.2.2.1), ((o + 4), out.2.2.2.2.2.2.2.2.2.2.2.2.2.2.2.2.2)]) B Q) ([.ref o] : List Value).toArray s 0 0 (gA G) = Z at hend ⊢
  generalize ([.ref o] : List Value).toArray = args at hts hend ⊢
  unfold f14_plan at hf
  refine lv_aload_n hx hb dX14_plan_0 rfl (lv_at hl 0 rfl) ?_
  refine lv_sipush (v := 400) hx hb dX14_plan_1 ls_400 ?_
  obtain ⟨rr1, hrr1, hf⟩ := bind_s hf
  refine g0_cVv (rm := (2, 45)) (As := [.int (400 : Int32)]) (rest := []) ⟨hx, hb, hml, hown, hts⟩ hG hR hS (m14_begin l G K (ov I [(1100, o, i_thrown), (1102, o, i_taped), (1103, o, i_size), (1104, o, i_limit), (1105, o, i_to), (1106, o, i_from), (1107, o, i_kind), (1108, o, i_number), (1109, o, i_sign), (1110, o, i_fault), (1111, o, i_at), (1113, o, i_told), (1122, o, i_isBegun), (1184, o, i_planMany)]) (ov J [(1112, o, j_word)]) X (ova A [((o + 1), a_tape), ((o + 2), a_now), ((o + 4), a_plan)]) B Q o shM (400 : Int32) i_thrown i_taped i_size i_limit i_to i_from i_kind i_number i_sign i_fault i_isBegun j_word a_tape a_now (ov_get 0 rfl rfl) (ov_get 1 rfl rfl) (ov_get 2 rfl rfl) (ov_get 3 rfl rfl) (ov_get 4 rfl rfl) (ov_get 5 rfl rfl) (ov_get 6 rfl rfl) (ov_get 7 rfl rfl) (ov_get 8 rfl rfl) (ov_get 9 rfl rfl) (ov_get 12 rfl rfl) (ov_get 0 rfl rfl) (ova_get 0 hN_A rfl) (ova_get 1 hN_A rfl) rr1 hrr1) (cwV 1 hts gi_X14_282 rfl rfl rfl hd_X14_begin ⟨Nat.le_of_ble_eq_true rfl, Nat.le_of_ble_eq_true rfl⟩) shM.1 rfl rfl hl.1 (Nat.le_of_ble_eq_true rfl) dX14_plan_4 ⟨Nat.le_refl _, Nat.le_refl _⟩ rfl (fun H locs hR hS => ?_)
  have hR : RS G K (ov I [(1100, o, rr1.1), (1102, o, rr1.2.1), (1103, o, rr1.2.2.1), (1104, o, rr1.2.2.2.1), (1105, o, rr1.2.2.2.2.1), (1106, o, rr1.2.2.2.2.2.1), (1107, o, rr1.2.2.2.2.2.2.1), (1108, o, rr1.2.2.2.2.2.2.2.1), (1109, o, rr1.2.2.2.2.2.2.2.2.1), (1110, o, rr1.2.2.2.2.2.2.2.2.2.1), (1111, o, i_at), (1113, o, i_told), (1122, o, rr1.2.2.2.2.2.2.2.2.2.2.1), (1184, o, i_planMany)]) (ov J [(1112, o, rr1.2.2.2.2.2.2.2.2.2.2.2.1)]) X (ova A [((o + 1), a_tape), ((o + 2), rr1.2.2.2.2.2.2.2.2.2.2.2.2), ((o + 4), a_plan)]) B Q H := hR.to (ov_merge (l := [(1100, o, i_thrown), (1102, o, i_taped), (1103, o, i_size), (1104, o, i_limit), (1105, o, i_to), (1106, o, i_from), (1107, o, i_kind), (1108, o, i_number), (1109, o, i_sign), (1110, o, i_fault), (1111, o, i_at), (1113, o, i_told), (1122, o, i_isBegun), (1184, o, i_planMany)]) rfl [0, 1, 2, 3, 4, 5, 6, 7, 8, 9, 12] [(1100, o, rr1.1), (1102, o, rr1.2.1), (1103, o, rr1.2.2.1), (1104, o, rr1.2.2.2.1), (1105, o, rr1.2.2.2.2.1), (1106, o, rr1.2.2.2.2.2.1), (1107, o, rr1.2.2.2.2.2.2.1), (1108, o, rr1.2.2.2.2.2.2.2.1), (1109, o, rr1.2.2.2.2.2.2.2.2.1), (1110, o, rr1.2.2.2.2.2.2.2.2.2.1), (1122, o, rr1.2.2.2.2.2.2.2.2.2.2.1)] rfl rfl) (ov_merge (l := [(1112, o, j_word)]) rfl [0] [(1112, o, rr1.2.2.2.2.2.2.2.2.2.2.2.1)] rfl rfl) rfl (ova_merge (l := [((o + 1), a_tape), ((o + 2), a_now), ((o + 4), a_plan)]) hN_A [0, 1] [((o + 1), a_tape), ((o + 2), rr1.2.2.2.2.2.2.2.2.2.2.2.2)] rfl rfl) rfl rfl
  refine lv_aload_n hx hb dX14_plan_7 rfl (lv_at hl 0 rfl) ?_
  refine lv_iconst (v := 0) hx hb dX14_plan_8 li_0 ?_
  refine n_puti (li' := [(1100, o, rr1.1), (1102, o, rr1.2.1), (1103, o, rr1.2.2.1), (1104, o, rr1.2.2.2.1), (1105, o, rr1.2.2.2.2.1), (1106, o, rr1.2.2.2.2.2.1), (1107, o, rr1.2.2.2.2.2.2.1), (1108, o, rr1.2.2.2.2.2.2.2.1), (1109, o, rr1.2.2.2.2.2.2.2.2.1), (1110, o, rr1.2.2.2.2.2.2.2.2.2.1), (1111, o, i_at), (1113, o, i_told), (1122, o, rr1.2.2.2.2.2.2.2.2.2.2.1), (1184, o, (0 : Int32))]) hx hb hts hown hG hR hS gPi_X14_491_11 shM.1 13 rfl rfl rfl dX14_plan_9 (fun H locs hR hS => ?_)
  obtain ⟨rl2, hw2, hfo2⟩ := bind_s hf
  have hx2_0 : ∀ (x2_0 : Int32 × Int32 × Int32 × Int32 × Int32 × Int32 × Int32 × Int32 × Int32 × Int64 × (Nat → Int32)), f14_plan_e2_0 rr1 x2_0 = some out → ∀ (H : Heap) (locs : List Loc) (ls : Array Slot), RS G K (ov I [(1100, o, rr1.1), (1102, o, rr1.2.1), (1103, o, rr1.2.2.1), (1104, o, rr1.2.2.2.1), (1105, o, x2_0.1), (1106, o, x2_0.2.1), (1107, o, x2_0.2.2.1), (1108, o, x2_0.2.2.2.1), (1109, o, x2_0.2.2.2.2.1), (1110, o, x2_0.2.2.2.2.2.1), (1111, o, x2_0.2.2.2.2.2.2.1), (1113, o, x2_0.2.2.2.2.2.2.2.1), (1122, o, rr1.2.2.2.2.2.2.2.2.2.2.1), (1184, o, x2_0.2.2.2.2.2.2.2.2.1)]) (ov J [(1112, o, x2_0.2.2.2.2.2.2.2.2.2.1)]) X (ova A [((o + 1), a_tape), ((o + 2), rr1.2.2.2.2.2.2.2.2.2.2.2.2), ((o + 4), x2_0.2.2.2.2.2.2.2.2.2.2)]) B Q H → va_S (gA G) s.heap H locs → lv_has ls 2 [(0, .ref o)] → W p l e ({ frames := 5, cells := 0, slots := 0, locals := 114 } : Room) s m args below meth c H locs 0 0 Z (F0 m 33 ls []) := by
    intro x2_0 hf H locs ls hR hS hl
    unfold f14_plan_e2_0 at hf
    refine lv_iconst (v := 0) hx hb dX14_plan_33 li_0 ?_
    refine lv_istore_n (lv' := [(1, .int (0 : Int32)), (0, .ref o)]) hx hb dX14_plan_34 rfl hl (by decide) rfl (fun ls hl => ?_)
    obtain ⟨rl3, hw3, hfo3⟩ := bind_s hf
    have hx3_0 : ∀ (x3_0 : (Nat → Int32)), f14_plan_e3_0 rr1 x2_0 x3_0 = some out → ∀ (H : Heap) (locs : List Loc) (ls : Array Slot), RS G K (ov I [(1100, o, rr1.1), (1102, o, rr1.2.1), (1103, o, rr1.2.2.1), (1104, o, rr1.2.2.2.1), (1105, o, x2_0.1), (1106, o, x2_0.2.1), (1107, o, x2_0.2.2.1), (1108, o, x2_0.2.2.2.1), (1109, o, x2_0.2.2.2.2.1), (1110, o, x2_0.2.2.2.2.2.1), (1111, o, x2_0.2.2.2.2.2.2.1), (1113, o, x2_0.2.2.2.2.2.2.2.1), (1122, o, rr1.2.2.2.2.2.2.2.2.2.2.1), (1184, o, x2_0.2.2.2.2.2.2.2.2.1)]) (ov J [(1112, o, x2_0.2.2.2.2.2.2.2.2.2.1)]) X (ova A [((o + 1), a_tape), ((o + 2), x3_0), ((o + 4), x2_0.2.2.2.2.2.2.2.2.2.2)]) B Q H → va_S (gA G) s.heap H locs → lv_has ls 2 [(0, .ref o)] → W p l e ({ frames := 5, cells := 0, slots := 0, locals := 114 } : Room) s m args below meth c H locs 0 0 Z (F0 m 68 ls []) := by
      intro x3_0 hf H locs ls hR hS hl
      unfold f14_plan_e3_0 at hf
      refine lv_aload_n hx hb dX14_plan_68 rfl (lv_at hl 0 rfl) ?_
      refine g_getr (b := (o + 2)) hx hb hts hown hG hR gFx_X14_13_11 shM.1 ((shM.2 1 _ rfl).2) dX14_plan_69 ?_
      refine lv_sipush (v := 200) hx hb dX14_plan_72 ls_200 ?_
      refine lv_aload_n hx hb dX14_plan_75 rfl (lv_at hl 0 rfl) ?_
      refine n_geti (v := x2_0.2.2.2.2.2.2.2.2.1) hx hb hts hown hG hR gFi_X14_491_11 shM.1 (ov_get 13 rfl rfl) dX14_plan_76 ?_
      obtain ⟨c4, hf⟩ := gd_some hf
      obtain ⟨u5, eu5, hf⟩ := lt_some hf
      refine n_iast (la' := [((o + 1), a_tape), ((o + 2), u5), ((o + 4), x2_0.2.2.2.2.2.2.2.2.2.2)]) hx hb hG hR hS k_a_now c4 hN_A 1 rfl eu5 rfl dX14_plan_79 (fun H locs hR hS => ?_)
      refine lv_aload_n hx hb dX14_plan_80 rfl (lv_at hl 0 rfl) ?_
      refine n_geti (v := x2_0.2.2.2.2.2.2.2.2.1) hx hb hts hown hG hR gFi_X14_491_11 shM.1 (ov_get 13 rfl rfl) dX14_plan_81 ?_
      obtain rfl := some_i hf
      exact hend _ _ _ _ dX14_plan_84 hR hS
    refine whl_walk (P := fun (s3 : Int32 × (Nat → Int32)) => ∀ (H : Heap) (locs : List Loc) (ls : Array Slot), RS G K (ov I [(1100, o, rr1.1), (1102, o, rr1.2.1), (1103, o, rr1.2.2.1), (1104, o, rr1.2.2.2.1), (1105, o, x2_0.1), (1106, o, x2_0.2.1), (1107, o, x2_0.2.2.1), (1108, o, x2_0.2.2.2.1), (1109, o, x2_0.2.2.2.2.1), (1110, o, x2_0.2.2.2.2.2.1), (1111, o, x2_0.2.2.2.2.2.2.1), (1113, o, x2_0.2.2.2.2.2.2.2.1), (1122, o, rr1.2.2.2.2.2.2.2.2.2.2.1), (1184, o, x2_0.2.2.2.2.2.2.2.2.1)]) (ov J [(1112, o, x2_0.2.2.2.2.2.2.2.2.2.1)]) X (ova A [((o + 1), a_tape), ((o + 2), s3.2), ((o + 4), x2_0.2.2.2.2.2.2.2.2.2.2)]) B Q H → va_S (gA G) s.heap H locs → lv_has ls 2 [(0, .ref o), (1, .int s3.1)] → W p l e ({ frames := 5, cells := 0, slots := 0, locals := 114 } : Room) s m args below meth c H locs 0 0 Z (F0 m 35 ls [])) (r := rl3) ?_ FU _ hw3 _ _ _ hR hS (lv_sub hl [1, 0] rfl)
    clear hR hS hl hf
    intro s3 o3 hf hk3 H locs ls hR hS hl
    obtain ⟨w3_1, w3_a_now⟩ := s3
    have hf : f14_plan_s3 x2_0 w3_1 w3_a_now = some o3 := hf
    have hR : RS G K (ov I [(1100, o, rr1.1), (1102, o, rr1.2.1), (1103, o, rr1.2.2.1), (1104, o, rr1.2.2.2.1), (1105, o, x2_0.1), (1106, o, x2_0.2.1), (1107, o, x2_0.2.2.1), (1108, o, x2_0.2.2.2.1), (1109, o, x2_0.2.2.2.2.1), (1110, o, x2_0.2.2.2.2.2.1), (1111, o, x2_0.2.2.2.2.2.2.1), (1113, o, x2_0.2.2.2.2.2.2.2.1), (1122, o, rr1.2.2.2.2.2.2.2.2.2.2.1), (1184, o, x2_0.2.2.2.2.2.2.2.2.1)]) (ov J [(1112, o, x2_0.2.2.2.2.2.2.2.2.2.1)]) X (ova A [((o + 1), a_tape), ((o + 2), w3_a_now), ((o + 4), x2_0.2.2.2.2.2.2.2.2.2.2)]) B Q H := hR
    have hl : lv_has ls 2 [(0, .ref o), (1, .int w3_1)] := hl
    unfold f14_plan_s3 at hf
    refine lv_iload_n hx hb dX14_plan_35 rfl (lv_at hl 1 rfl) ?_
    refine lv_bipush (v := 16) hx hb dX14_plan_36 lb_16 ?_
    refine lv_aload_n hx hb dX14_plan_38 rfl (lv_at hl 0 rfl) ?_
    refine n_geti (v := x2_0.2.2.2.2.2.2.2.2.1) hx hb hts hown hG hR gFi_X14_491_11 shM.1 (ov_get 13 rfl rfl) dX14_plan_39 ?_
    obtain ⟨v6, ev6, hf⟩ := lt_some hf
    refine n_imul hx hb ev6 dX14_plan_42 ?_
    refine lv_icmp_ge (tgt := 68) hx hb dX14_plan_43 (by decide) (fun c7 => ?_) (fun c7 => ?_)
    · have hf := ite_t c7 hf
      obtain rfl := some_i hf
      replace hk3 : _ = rl3 := hk3
      subst hk3
      exact hx3_0 w3_a_now hfo3 _ _ _ hR hS (lv_sub hl [0] rfl)
    · have hf := ite_f c7 hf
      refine lv_aload_n hx hb dX14_plan_46 rfl (lv_at hl 0 rfl) ?_
      refine g_getr (b := (o + 2)) hx hb hts hown hG hR gFx_X14_13_11 shM.1 ((shM.2 1 _ rfl).2) dX14_plan_47 ?_
      refine lv_sipush (v := 210) hx hb dX14_plan_50 ls_210 ?_
      refine lv_iload_n hx hb dX14_plan_53 rfl (lv_at hl 1 rfl) ?_
      obtain ⟨v8, ev8, hf⟩ := lt_some hf
      refine n_iadd hx hb ev8 dX14_plan_54 ?_
      refine lv_aload_n hx hb dX14_plan_55 rfl (lv_at hl 0 rfl) ?_
      refine g_getr (b := (o + 4)) hx hb hts hown hG hR gFx_X14_19_11 shM.1 ((shM.2 3 _ rfl).2) dX14_plan_56 ?_
      refine lv_iload_n hx hb dX14_plan_59 rfl (lv_at hl 1 rfl) ?_
      obtain ⟨c9, hf⟩ := gd_some hf
      obtain ⟨v10, ev10, hf⟩ := lt_some hf
      refine n_iald (x := x2_0.2.2.2.2.2.2.2.2.2.2) hx hb hG hR k_a_plan c9 (ova_get 2 hN_A rfl) ev10 dX14_plan_60 ?_
      obtain ⟨c11, hf⟩ := gd_some hf
      obtain ⟨u12, eu12, hf⟩ := lt_some hf
      refine n_iast (la' := [((o + 1), a_tape), ((o + 2), u12), ((o + 4), x2_0.2.2.2.2.2.2.2.2.2.2)]) hx hb hG hR hS k_a_now c11 hN_A 1 rfl eu12 rfl dX14_plan_61 (fun H locs hR hS => ?_)
      obtain ⟨v13, ev13, hf⟩ := lt_some hf
      refine lv_iinc (k := 1) (v := v13) (lv' := [(1, .int v13), (0, .ref o)]) hx hb dX14_plan_62 hl rfl (by rw [ev13]; rfl) (by decide) rfl (fun ls hl => ?_)
      refine lv_goto (tgt := 35) hx hb dX14_plan_65 (by decide) ?_
      obtain rfl := some_i hf
      exact hk3 _ _ _ hR hS (lv_sub hl [1, 0] rfl)
  have hx2_1 : ∀ (x2_1 : Int32 × Int32 × Int32 × Int32 × Int32 × Int32 × Int32 × Int32 × Int32 × Int64 × (Nat → Int32)), f14_plan_e2_1 rr1 x2_1 = some out → ∀ (H : Heap) (locs : List Loc) (ls : Array Slot), RS G K (ov I [(1100, o, rr1.1), (1102, o, rr1.2.1), (1103, o, rr1.2.2.1), (1104, o, rr1.2.2.2.1), (1105, o, x2_1.1), (1106, o, x2_1.2.1), (1107, o, x2_1.2.2.1), (1108, o, x2_1.2.2.2.1), (1109, o, x2_1.2.2.2.2.1), (1110, o, x2_1.2.2.2.2.2.1), (1111, o, x2_1.2.2.2.2.2.2.1), (1113, o, x2_1.2.2.2.2.2.2.2.1), (1122, o, rr1.2.2.2.2.2.2.2.2.2.2.1), (1184, o, x2_1.2.2.2.2.2.2.2.2.1)]) (ov J [(1112, o, x2_1.2.2.2.2.2.2.2.2.2.1)]) X (ova A [((o + 1), a_tape), ((o + 2), rr1.2.2.2.2.2.2.2.2.2.2.2.2), ((o + 4), x2_1.2.2.2.2.2.2.2.2.2.2)]) B Q H → va_S (gA G) s.heap H locs → lv_has ls 2 [(0, .ref o)] → W p l e ({ frames := 5, cells := 0, slots := 0, locals := 114 } : Room) s m args below meth c H locs 0 0 Z (F0 m 26 ls []) := by
    intro x2_1 hf H locs ls hR hS hl
    unfold f14_plan_e2_1 at hf
    refine lv_iconst (v := -1) hx hb dX14_plan_26 li_m1 ?_
    refine lv_aload_n hx hb dX14_plan_27 rfl (lv_at hl 0 rfl) ?_
    refine n_geti (v := x2_1.2.2.2.2.2.2.1) hx hb hts hown hG hR gFi_X14_213_11 shM.1 (ov_get 10 rfl rfl) dX14_plan_28 ?_
    obtain ⟨v14, ev14, hf⟩ := lt_some hf
    refine n_isub hx hb ev14 dX14_plan_31 ?_
    obtain rfl := some_i hf
    exact hend _ _ _ _ dX14_plan_32 hR hS
  refine whl_walk (P := fun (s2 : Int32 × Int32 × Int32 × Int32 × Int32 × Int32 × Int32 × Int32 × Int32 × Int64 × (Nat → Int32)) => ∀ (H : Heap) (locs : List Loc) (ls : Array Slot), RS G K (ov I [(1100, o, rr1.1), (1102, o, rr1.2.1), (1103, o, rr1.2.2.1), (1104, o, rr1.2.2.2.1), (1105, o, s2.1), (1106, o, s2.2.1), (1107, o, s2.2.2.1), (1108, o, s2.2.2.2.1), (1109, o, s2.2.2.2.2.1), (1110, o, s2.2.2.2.2.2.1), (1111, o, s2.2.2.2.2.2.2.1), (1113, o, s2.2.2.2.2.2.2.2.1), (1122, o, rr1.2.2.2.2.2.2.2.2.2.2.1), (1184, o, s2.2.2.2.2.2.2.2.2.1)]) (ov J [(1112, o, s2.2.2.2.2.2.2.2.2.2.1)]) X (ova A [((o + 1), a_tape), ((o + 2), rr1.2.2.2.2.2.2.2.2.2.2.2.2), ((o + 4), s2.2.2.2.2.2.2.2.2.2.2)]) B Q H → va_S (gA G) s.heap H locs → lv_has ls 2 [(0, .ref o)] → W p l e ({ frames := 5, cells := 0, slots := 0, locals := 114 } : Room) s m args below meth c H locs 0 0 Z (F0 m 12 ls [])) (r := rl2) ?_ FU _ hw2 _ _ _ hR hS (lv_sub hl [0] rfl)
  clear hR hS hl hf
  intro s2 o2 hf hk2 H locs ls hR hS hl
  obtain ⟨w2_i_to, w2_i_from, w2_i_kind, w2_i_number, w2_i_sign, w2_i_fault, w2_i_at, w2_i_told, w2_i_planMany, w2_j_word, w2_a_plan⟩ := s2
  have hf : f14_plan_s2 a_tape b_name rr1 w2_i_to w2_i_from w2_i_kind w2_i_number w2_i_sign w2_i_fault w2_i_at w2_i_told w2_i_planMany w2_j_word w2_a_plan = some o2 := hf
  have hR : RS G K (ov I [(1100, o, rr1.1), (1102, o, rr1.2.1), (1103, o, rr1.2.2.1), (1104, o, rr1.2.2.2.1), (1105, o, w2_i_to), (1106, o, w2_i_from), (1107, o, w2_i_kind), (1108, o, w2_i_number), (1109, o, w2_i_sign), (1110, o, w2_i_fault), (1111, o, w2_i_at), (1113, o, w2_i_told), (1122, o, rr1.2.2.2.2.2.2.2.2.2.2.1), (1184, o, w2_i_planMany)]) (ov J [(1112, o, w2_j_word)]) X (ova A [((o + 1), a_tape), ((o + 2), rr1.2.2.2.2.2.2.2.2.2.2.2.2), ((o + 4), w2_a_plan)]) B Q H := hR
  have hl : lv_has ls 2 [(0, .ref o)] := hl
  unfold f14_plan_s2 at hf
  refine lv_aload_n hx hb dX14_plan_12 rfl (lv_at hl 0 rfl) ?_
  refine n_geti (v := w2_i_kind) hx hb hts hown hG hR gFi_X14_170_11 shM.1 (ov_get 6 rfl rfl) dX14_plan_13 ?_
  refine lv_if_eq (tgt := 33) hx hb dX14_plan_16 (by decide) (fun c15 => ?_) (fun c15 => ?_)
  · have hf := ite_t c15 hf
    obtain rfl := some_i hf
    replace hk2 : _ = rl2 := hk2
    subst hk2
    exact hx2_0 (w2_i_to, w2_i_from, w2_i_kind, w2_i_number, w2_i_sign, w2_i_fault, w2_i_at, w2_i_told, w2_i_planMany, w2_j_word, w2_a_plan) (el_l hfo2) _ _ _ hR hS (lv_sub hl [0] rfl)
  · have hf := ite_f c15 hf
    refine lv_aload_n hx hb dX14_plan_19 rfl (lv_at hl 0 rfl) ?_
    obtain ⟨rr16, hrr16, hf⟩ := bind_s hf
    refine g0_cV (rm := (4, 92)) (As := []) (rest := []) ⟨hx, hb, hml, hown, hts⟩ hG hR hS (m14_readTold l G K (ov I [(1100, o, rr1.1), (1102, o, rr1.2.1), (1103, o, rr1.2.2.1), (1104, o, rr1.2.2.2.1), (1105, o, w2_i_to), (1106, o, w2_i_from), (1107, o, w2_i_kind), (1108, o, w2_i_number), (1109, o, w2_i_sign), (1110, o, w2_i_fault), (1111, o, w2_i_at), (1113, o, w2_i_told), (1122, o, rr1.2.2.2.2.2.2.2.2.2.2.1), (1184, o, w2_i_planMany)]) (ov J [(1112, o, w2_j_word)]) X (ova A [((o + 1), a_tape), ((o + 2), rr1.2.2.2.2.2.2.2.2.2.2.2.2), ((o + 4), w2_a_plan)]) B Q o shM rr1.2.2.1 rr1.2.2.2.1 w2_i_to w2_i_from w2_i_kind w2_i_number w2_i_sign w2_i_fault w2_i_at w2_i_told w2_i_planMany w2_j_word a_tape rr1.2.2.2.2.2.2.2.2.2.2.2.2 w2_a_plan b_name (ov_get 2 rfl rfl) (ov_get 3 rfl rfl) (ov_get 4 rfl rfl) (ov_get 5 rfl rfl) (ov_get 6 rfl rfl) (ov_get 7 rfl rfl) (ov_get 8 rfl rfl) (ov_get 9 rfl rfl) (ov_get 10 rfl rfl) (ov_get 11 rfl rfl) (ov_get 13 rfl rfl) (ov_get 0 rfl rfl) (ova_get 0 hN_A rfl) (ova_get 1 hN_A rfl) (ova_get 2 hN_A rfl) e_b_name rr16 hrr16) (cwV 0 hts gi_X14_497 rfl rfl rfl hd_X14_readTold ⟨Nat.le_of_ble_eq_true rfl, Nat.le_of_ble_eq_true rfl⟩) shM.1 rfl rfl hl.1 (Nat.le_of_ble_eq_true rfl) dX14_plan_20 ⟨Nat.le_refl _, Nat.le_refl _⟩ rfl (fun H locs hR hS => ?_)
    have hR : RS G K (ov I [(1100, o, rr1.1), (1102, o, rr1.2.1), (1103, o, rr1.2.2.1), (1104, o, rr1.2.2.2.1), (1105, o, rr16.2.1), (1106, o, rr16.2.2.1), (1107, o, rr16.2.2.2.1), (1108, o, rr16.2.2.2.2.1), (1109, o, rr16.2.2.2.2.2.1), (1110, o, rr16.2.2.2.2.2.2.1), (1111, o, rr16.2.2.2.2.2.2.2.1), (1113, o, rr16.2.2.2.2.2.2.2.2.1), (1122, o, rr1.2.2.2.2.2.2.2.2.2.2.1), (1184, o, rr16.2.2.2.2.2.2.2.2.2.1)]) (ov J [(1112, o, rr16.2.2.2.2.2.2.2.2.2.2.1)]) X (ova A [((o + 1), a_tape), ((o + 2), rr1.2.2.2.2.2.2.2.2.2.2.2.2), ((o + 4), rr16.2.2.2.2.2.2.2.2.2.2.2)]) B Q H := hR.to (ov_merge (l := [(1100, o, rr1.1), (1102, o, rr1.2.1), (1103, o, rr1.2.2.1), (1104, o, rr1.2.2.2.1), (1105, o, w2_i_to), (1106, o, w2_i_from), (1107, o, w2_i_kind), (1108, o, w2_i_number), (1109, o, w2_i_sign), (1110, o, w2_i_fault), (1111, o, w2_i_at), (1113, o, w2_i_told), (1122, o, rr1.2.2.2.2.2.2.2.2.2.2.1), (1184, o, w2_i_planMany)]) rfl [4, 5, 6, 7, 8, 9, 10, 11, 13] [(1105, o, rr16.2.1), (1106, o, rr16.2.2.1), (1107, o, rr16.2.2.2.1), (1108, o, rr16.2.2.2.2.1), (1109, o, rr16.2.2.2.2.2.1), (1110, o, rr16.2.2.2.2.2.2.1), (1111, o, rr16.2.2.2.2.2.2.2.1), (1113, o, rr16.2.2.2.2.2.2.2.2.1), (1184, o, rr16.2.2.2.2.2.2.2.2.2.1)] rfl rfl) (ov_merge (l := [(1112, o, w2_j_word)]) rfl [0] [(1112, o, rr16.2.2.2.2.2.2.2.2.2.2.1)] rfl rfl) rfl (ova_merge (l := [((o + 1), a_tape), ((o + 2), rr1.2.2.2.2.2.2.2.2.2.2.2.2), ((o + 4), w2_a_plan)]) hN_A [0, 1, 2] [((o + 1), a_tape), ((o + 2), rr1.2.2.2.2.2.2.2.2.2.2.2.2), ((o + 4), rr16.2.2.2.2.2.2.2.2.2.2.2)] rfl rfl) rfl rfl
    refine lv_if_ne (tgt := 12) hx hb dX14_plan_23 (by decide) (fun c17 => ?_) (fun c17 => ?_)
    · have hf := ite_f c17 hf
      obtain rfl := some_i hf
      exact hk2 _ _ _ hR hS (lv_sub hl [0] rfl)
    · have hf := ite_t c17 hf
      obtain rfl := some_i hf
      replace hk2 : _ = rl2 := hk2
      subst hk2
      exact hx2_1 (rr16.2.1, rr16.2.2.1, rr16.2.2.2.1, rr16.2.2.2.2.1, rr16.2.2.2.2.2.1, rr16.2.2.2.2.2.2.1, rr16.2.2.2.2.2.2.2.1, rr16.2.2.2.2.2.2.2.2.1, rr16.2.2.2.2.2.2.2.2.2.1, rr16.2.2.2.2.2.2.2.2.2.2.1, rr16.2.2.2.2.2.2.2.2.2.2.2) (el_r hfo2) _ _ _ hR hS (lv_sub hl [0] rfl)
noncomputable def f14_yard_e5_0 (rr1 : Int32 × Int32 × Int32 × Int32 × Int32 × Int32 × Int32 × Int32 × Int32 × Int32 × Int32 × Int64 × (Nat → Int32)) (x3_0 : Int32 × Int32 × Int32 × Int32 × Int32 × Int32 × Int32 × Int32 × Int32 × Int32 × Int64 × (Nat → Int32) × (Nat → Int64)) (x4_0 : (Nat → Int32)) (x5_0 : (Nat → Int64)) : Option (Int32 × Int32 × Int32 × Int32 × Int32 × Int32 × Int32 × Int32 × Int32 × Int32 × Int32 × Int32 × Int32 × Int32 × Int32 × Int64 × (Nat → Int32) × (Nat → Int32) × (Nat → Int64) × (Nat → Int64)) :=
  gd (inb (200 : Int32) 800) <|
  lt (upd x4_0 (200 : Int32).toNatClampNeg (0 : Int32)) fun u7 =>
  gd (inb (540 : Int32) 800) <|
  lt (upd u7 (540 : Int32).toNatClampNeg (0 : Int32)) fun u9 =>
  some (x3_0.1, rr1.1, rr1.2.1, rr1.2.2.1, rr1.2.2.2.1, x3_0.2.1, x3_0.2.2.1, x3_0.2.2.2.1, x3_0.2.2.2.2.1, x3_0.2.2.2.2.2.1, x3_0.2.2.2.2.2.2.1, x3_0.2.2.2.2.2.2.2.1, x3_0.2.2.2.2.2.2.2.2.1, rr1.2.2.2.2.2.2.2.2.2.2.1, x3_0.2.2.2.2.2.2.2.2.2.1, x3_0.2.2.2.2.2.2.2.2.2.2.1, u9, x3_0.2.2.2.2.2.2.2.2.2.2.2.1, x5_0, x3_0.2.2.2.2.2.2.2.2.2.2.2.2)

noncomputable def f14_yard_s5 (x3_0 : Int32 × Int32 × Int32 × Int32 × Int32 × Int32 × Int32 × Int32 × Int32 × Int32 × Int64 × (Nat → Int32) × (Nat → Int64)) (w5_2 : Int32) (w5_b_name : Nat → Int64) : Option ((Int32 × (Nat → Int64)) ⊕ ((Nat → Int64))) :=
  if (12 : Int32) ≤ w5_2 then
    some (.inr w5_b_name)
  else
    gd (inb w5_2 12) <|
    lt (x3_0.2.2.2.2.2.2.2.2.2.2.2.2 w5_2.toNatClampNeg) fun v12 =>
    gd (inb w5_2 12) <|
    lt (vp_updL w5_b_name w5_2.toNatClampNeg v12) fun u14 =>
    lt (w5_2 + (1 : Int32)) fun v15 =>
    some (.inl (v15, u14))

noncomputable def f14_yard_e4_0 (b_name : Nat → Int64) (rr1 : Int32 × Int32 × Int32 × Int32 × Int32 × Int32 × Int32 × Int32 × Int32 × Int32 × Int32 × Int64 × (Nat → Int32)) (x3_0 : Int32 × Int32 × Int32 × Int32 × Int32 × Int32 × Int32 × Int32 × Int32 × Int32 × Int64 × (Nat → Int32) × (Nat → Int64)) (x4_0 : (Nat → Int32)) : Option (Int32 × Int32 × Int32 × Int32 × Int32 × Int32 × Int32 × Int32 × Int32 × Int32 × Int32 × Int32 × Int32 × Int32 × Int32 × Int64 × (Nat → Int32) × (Nat → Int32) × (Nat → Int64) × (Nat → Int64)) :=
  (whl (fun (s5 : Int32 × (Nat → Int64)) => f14_yard_s5 x3_0 s5.1 s5.2) FU ((0 : Int32), b_name)).bind fun rl5 =>
  f14_yard_e5_0 rr1 x3_0 x4_0 rl5

noncomputable def f14_yard_s4 (x3_0 : Int32 × Int32 × Int32 × Int32 × Int32 × Int32 × Int32 × Int32 × Int32 × Int32 × Int64 × (Nat → Int32) × (Nat → Int64)) (w4_2 : Int32) (w4_a_now : Nat → Int32) : Option ((Int32 × (Nat → Int32)) ⊕ ((Nat → Int32))) :=
  if (200 : Int32) ≤ w4_2 then
    some (.inr w4_a_now)
  else
    gd (inb w4_2 200) <|
    lt (x3_0.2.2.2.2.2.2.2.2.2.2.2.1 w4_2.toNatClampNeg) fun v18 =>
    gd (inb w4_2 800) <|
    lt (upd w4_a_now w4_2.toNatClampNeg v18) fun u20 =>
    lt (w4_2 + (1 : Int32)) fun v21 =>
    some (.inl (v21, u20))

noncomputable def f14_yard_e3_0 (b_name : Nat → Int64) (rr1 : Int32 × Int32 × Int32 × Int32 × Int32 × Int32 × Int32 × Int32 × Int32 × Int32 × Int32 × Int64 × (Nat → Int32)) (x3_0 : Int32 × Int32 × Int32 × Int32 × Int32 × Int32 × Int32 × Int32 × Int32 × Int32 × Int64 × (Nat → Int32) × (Nat → Int64)) : Option (Int32 × Int32 × Int32 × Int32 × Int32 × Int32 × Int32 × Int32 × Int32 × Int32 × Int32 × Int32 × Int32 × Int32 × Int32 × Int64 × (Nat → Int32) × (Nat → Int32) × (Nat → Int64) × (Nat → Int64)) :=
  (whl (fun (s4 : Int32 × (Nat → Int32)) => f14_yard_s4 x3_0 s4.1 s4.2) FU ((0 : Int32), rr1.2.2.2.2.2.2.2.2.2.2.2.2)).bind fun rl4 =>
  f14_yard_e4_0 b_name rr1 x3_0 rl4

noncomputable def f14_yard_e3_1 (b_name : Nat → Int64) (rr1 : Int32 × Int32 × Int32 × Int32 × Int32 × Int32 × Int32 × Int32 × Int32 × Int32 × Int32 × Int64 × (Nat → Int32)) (x3_1 : Int32 × Int32 × Int32 × Int32 × Int32 × Int32 × Int32 × Int32 × Int32 × Int64 × (Nat → Int32) × (Nat → Int64)) : Option (Int32 × Int32 × Int32 × Int32 × Int32 × Int32 × Int32 × Int32 × Int32 × Int32 × Int32 × Int32 × Int32 × Int32 × Int32 × Int64 × (Nat → Int32) × (Nat → Int32) × (Nat → Int64) × (Nat → Int64)) :=
  lt ((-1 : Int32) - x3_1.2.2.2.2.2.2.1) fun v22 =>
  some (v22, rr1.1, rr1.2.1, rr1.2.2.1, rr1.2.2.2.1, x3_1.1, x3_1.2.1, x3_1.2.2.1, x3_1.2.2.2.1, x3_1.2.2.2.2.1, x3_1.2.2.2.2.2.1, x3_1.2.2.2.2.2.2.1, x3_1.2.2.2.2.2.2.2.1, rr1.2.2.2.2.2.2.2.2.2.2.1, x3_1.2.2.2.2.2.2.2.2.1, x3_1.2.2.2.2.2.2.2.2.2.1, rr1.2.2.2.2.2.2.2.2.2.2.2.2, x3_1.2.2.2.2.2.2.2.2.2.2.1, b_name, x3_1.2.2.2.2.2.2.2.2.2.2.2)

noncomputable def f14_yard_s3 (a_tape : Nat → Int32) (rr1 : Int32 × Int32 × Int32 × Int32 × Int32 × Int32 × Int32 × Int32 × Int32 × Int32 × Int32 × Int64 × (Nat → Int32)) (w3_1 : Int32) (w3_i_to : Int32) (w3_i_from : Int32) (w3_i_kind : Int32) (w3_i_number : Int32) (w3_i_sign : Int32) (w3_i_fault : Int32) (w3_i_at : Int32) (w3_i_told : Int32) (w3_i_had : Int32) (w3_j_word : Int64) (w3_a_read : Nat → Int32) (w3_b_readName : Nat → Int64) : Option ((Int32 × Int32 × Int32 × Int32 × Int32 × Int32 × Int32 × Int32 × Int32 × Int32 × Int64 × (Nat → Int32) × (Nat → Int64)) ⊕ ((Int32 × Int32 × Int32 × Int32 × Int32 × Int32 × Int32 × Int32 × Int32 × Int32 × Int64 × (Nat → Int32) × (Nat → Int64)) ⊕ (Int32 × Int32 × Int32 × Int32 × Int32 × Int32 × Int32 × Int32 × Int32 × Int64 × (Nat → Int32) × (Nat → Int64)))) :=
  if w3_i_kind = 0 then
    some (.inr (.inl (w3_1, w3_i_to, w3_i_from, w3_i_kind, w3_i_number, w3_i_sign, w3_i_fault, w3_i_at, w3_i_told, w3_i_had, w3_j_word, w3_a_read, w3_b_readName)))
  else
    (f14_readLine rr1.2.2.1 rr1.2.2.2.1 w3_i_to w3_i_from w3_i_kind w3_i_number w3_i_sign w3_i_fault w3_i_at w3_i_told w3_i_had w3_j_word a_tape w3_a_read w3_b_readName).bind fun rr24 =>
    if rr24.1 = 0 then
      some (.inr (.inr (rr24.2.1, rr24.2.2.1, rr24.2.2.2.1, rr24.2.2.2.2.1, rr24.2.2.2.2.2.1, rr24.2.2.2.2.2.2.1, rr24.2.2.2.2.2.2.2.1, rr24.2.2.2.2.2.2.2.2.1, rr24.2.2.2.2.2.2.2.2.2.1, rr24.2.2.2.2.2.2.2.2.2.2.1, rr24.2.2.2.2.2.2.2.2.2.2.2.1, rr24.2.2.2.2.2.2.2.2.2.2.2.2)))
    else
      lt (w3_1 + (1 : Int32)) fun v26 =>
      some (.inl (v26, rr24.2.1, rr24.2.2.1, rr24.2.2.2.1, rr24.2.2.2.2.1, rr24.2.2.2.2.2.1, rr24.2.2.2.2.2.2.1, rr24.2.2.2.2.2.2.2.1, rr24.2.2.2.2.2.2.2.2.1, rr24.2.2.2.2.2.2.2.2.2.1, rr24.2.2.2.2.2.2.2.2.2.2.1, rr24.2.2.2.2.2.2.2.2.2.2.2.1, rr24.2.2.2.2.2.2.2.2.2.2.2.2))

noncomputable def f14_yard (i_thrown : Int32) (i_taped : Int32) (i_size : Int32) (i_limit : Int32) (i_to : Int32) (i_from : Int32) (i_kind : Int32) (i_number : Int32) (i_sign : Int32) (i_fault : Int32) (i_at : Int32) (i_told : Int32) (i_isBegun : Int32) (i_had : Int32) (j_word : Int64) (a_tape : Nat → Int32) (a_now : Nat → Int32) (a_read : Nat → Int32) (b_name : Nat → Int64) (b_readName : Nat → Int64) : Option (Int32 × Int32 × Int32 × Int32 × Int32 × Int32 × Int32 × Int32 × Int32 × Int32 × Int32 × Int32 × Int32 × Int32 × Int32 × Int64 × (Nat → Int32) × (Nat → Int32) × (Nat → Int64) × (Nat → Int64)) :=
  (f14_begin (700 : Int32) i_thrown i_taped i_size i_limit i_to i_from i_kind i_number i_sign i_fault i_isBegun j_word a_tape a_now).bind fun rr1 =>
  (f14_standard 200 a_read).bind fun rr2 =>
  (whl (fun (s3 : Int32 × Int32 × Int32 × Int32 × Int32 × Int32 × Int32 × Int32 × Int32 × Int32 × Int64 × (Nat → Int32) × (Nat → Int64)) => f14_yard_s3 a_tape rr1 s3.1 s3.2.1 s3.2.2.1 s3.2.2.2.1 s3.2.2.2.2.1 s3.2.2.2.2.2.1 s3.2.2.2.2.2.2.1 s3.2.2.2.2.2.2.2.1 s3.2.2.2.2.2.2.2.2.1 s3.2.2.2.2.2.2.2.2.2.1 s3.2.2.2.2.2.2.2.2.2.2.1 s3.2.2.2.2.2.2.2.2.2.2.2.1 s3.2.2.2.2.2.2.2.2.2.2.2.2) FU ((0 : Int32), rr1.2.2.2.2.1, rr1.2.2.2.2.2.1, rr1.2.2.2.2.2.2.1, rr1.2.2.2.2.2.2.2.1, rr1.2.2.2.2.2.2.2.2.1, rr1.2.2.2.2.2.2.2.2.2.1, i_at, i_told, (0 : Int32), rr1.2.2.2.2.2.2.2.2.2.2.2.1, rr2, b_readName)).bind fun rl3 =>
  Sum.elim (f14_yard_e3_0 b_name rr1) (f14_yard_e3_1 b_name rr1) rl3
set_option maxHeartbeats 4000000 in
theorem m14_yard (l : Launch) (G : gG) (K : gK) (I : gI) (J : gJ) (X : gX) (A : gI) (B : gJ) (Q : gX) (o : Nat) (shM : Sh K X o 11 rows11)  (i_thrown : Int32) (i_taped : Int32) (i_size : Int32) (i_limit : Int32) (i_to : Int32) (i_from : Int32) (i_kind : Int32) (i_number : Int32) (i_sign : Int32) (i_fault : Int32) (i_at : Int32) (i_told : Int32) (i_isBegun : Int32) (i_had : Int32) (j_word : Int64) (a_tape : Nat → Int32) (a_now : Nat → Int32) (a_read : Nat → Int32) (b_name : Nat → Int64) (b_readName : Nat → Int64) (e_i_thrown : I 1100 o = i_thrown) (e_i_taped : I 1102 o = i_taped) (e_i_size : I 1103 o = i_size) (e_i_limit : I 1104 o = i_limit) (e_i_to : I 1105 o = i_to) (e_i_from : I 1106 o = i_from) (e_i_kind : I 1107 o = i_kind) (e_i_number : I 1108 o = i_number) (e_i_sign : I 1109 o = i_sign) (e_i_fault : I 1110 o = i_fault) (e_i_at : I 1111 o = i_at) (e_i_told : I 1113 o = i_told) (e_i_isBegun : I 1122 o = i_isBegun) (e_i_had : I 1123 o = i_had) (e_j_word : J 1112 o = j_word) (e_a_tape : A (o + 1) = a_tape) (e_a_now : A (o + 2) = a_now) (e_a_read : A (o + 3) = a_read) (e_b_name : B (o + 6) = b_name) (e_b_readName : B (o + 7) = b_readName) (out : Int32 × Int32 × Int32 × Int32 × Int32 × Int32 × Int32 × Int32 × Int32 × Int32 × Int32 × Int32 × Int32 × Int32 × Int32 × Int64 × (Nat → Int32) × (Nat → Int32) × (Nat → Int64) × (Nat → Int64)) (hf : f14_yard i_thrown i_taped i_size i_limit i_to i_from i_kind i_number i_sign i_fault i_at i_told i_isBegun i_had j_word a_tape a_now a_read b_name b_readName = some out) : GMet l yX14_yard cX14_yard 3 (some .int) (6) (134) G [.ref o] K I J X A B Q (some (.int out.1)) K (ov I [(1100, o, out.2.1), (1102, o, out.2.2.1), (1103, o, out.2.2.2.1), (1104, o, out.2.2.2.2.1), (1105, o, out.2.2.2.2.2.1), (1106, o, out.2.2.2.2.2.2.1), (1107, o, out.2.2.2.2.2.2.2.1), (1108, o, out.2.2.2.2.2.2.2.2.1), (1109, o, out.2.2.2.2.2.2.2.2.2.1), (1110, o, out.2.2.2.2.2.2.2.2.2.2.1), (1111, o, out.2.2.2.2.2.2.2.2.2.2.2.1), (1113, o, out.2.2.2.2.2.2.2.2.2.2.2.2.1), (1122, o, out.2.2.2.2.2.2.2.2.2.2.2.2.2.1), (1123, o, out.2.2.2.2.2.2.2.2.2.2.2.2.2.2.1)]) (ov J [(1112, o, out.2.2.2.2.2.2.2.2.2.2.2.2.2.2.2.1)]) X (ova A [((o + 1), a_tape), ((o + 2), out.2.2.2.2.2.2.2.2.2.2.2.2.2.2.2.2.1), ((o + 3), out.2.2.2.2.2.2.2.2.2.2.2.2.2.2.2.2.2.1)]) (ova B [((o + 6), out.2.2.2.2.2.2.2.2.2.2.2.2.2.2.2.2.2.2.1), ((o + 7), out.2.2.2.2.2.2.2.2.2.2.2.2.2.2.2.2.2.2.2)]) Q 0 0 := by
  refine GMet.of (y := yX14_yard) rfl (Nat.le_of_ble_eq_true rfl) rfl ?_
  intro p e s m below meth c ls hx hb hr hml hlocks hts hown hname hG hR hl
  have hown : s.vm.findClass RX14 = some m.cls := hown
  have k_a_tape : K (o + 1) = some (.inr (0, 740)) := (shM.2 0 _ rfl).1
  have k_a_now : K (o + 2) = some (.inr (0, 800)) := (shM.2 1 _ rfl).1
  have k_a_read : K (o + 3) = some (.inr (0, 200)) := (shM.2 2 _ rfl).1
  have k_b_name : K (o + 6) = some (.inr (3, 12)) := (shM.2 5 _ rfl).1
  have k_b_readName : K (o + 7) = some (.inr (3, 12)) := (shM.2 6 _ rfl).1
  have hN_A : nda [(o + 1), (o + 2), (o + 3)] := nd_off o [1, 2, 3] rfl
  have hN_B : nda [(o + 6), (o + 7)] := nd_off o [6, 7] rfl
  have hR : RS G K (ov I [(1100, o, i_thrown), (1102, o, i_taped), (1103, o, i_size), (1104, o, i_limit), (1105, o, i_to), (1106, o, i_from), (1107, o, i_kind), (1108, o, i_number), (1109, o, i_sign), (1110, o, i_fault), (1111, o, i_at), (1113, o, i_told), (1122, o, i_isBegun), (1123, o, i_had)]) (ov J [(1112, o, j_word)]) X (ova A [((o + 1), a_tape), ((o + 2), a_now), ((o + 3), a_read)]) (ova B [((o + 6), b_name), ((o + 7), b_readName)]) Q s.heap := hR.to (Eq.symm (ov_sc e_i_thrown (ov_sc e_i_taped (ov_sc e_i_size (ov_sc e_i_limit (ov_sc e_i_to (ov_sc e_i_from (ov_sc e_i_kind (ov_sc e_i_number (ov_sc e_i_sign (ov_sc e_i_fault (ov_sc e_i_at (ov_sc e_i_told (ov_sc e_i_isBegun (ov_sc e_i_had rfl))))))))))))))) (Eq.symm (ov_sc e_j_word rfl)) rfl (Eq.symm (ova_sc e_a_tape (ova_sc e_a_now (ova_sc e_a_read rfl)))) (Eq.symm (ova_sc e_b_name (ova_sc e_b_readName rfl))) rfl
  have hS : va_S (gA G) s.heap s.heap [] := va_S.rf
  have hend : ∀ (pc : Nat) (H : Heap) (locs : List Loc) (ls : Array Slot), decode cX14_yard pc = .ok (.ireturn, 1) → RS G K (ov I [(1100, o, out.2.1), (1102, o, out.2.2.1), (1103, o, out.2.2.2.1), (1104, o, out.2.2.2.2.1), (1105, o, out.2.2.2.2.2.1), (1106, o, out.2.2.2.2.2.2.1), (1107, o, out.2.2.2.2.2.2.2.1), (1108, o, out.2.2.2.2.2.2.2.2.1), (1109, o, out.2.2.2.2.2.2.2.2.2.1), (1110, o, out.2.2.2.2.2.2.2.2.2.2.1), (1111, o, out.2.2.2.2.2.2.2.2.2.2.2.1), (1113, o, out.2.2.2.2.2.2.2.2.2.2.2.2.1), (1122, o, out.2.2.2.2.2.2.2.2.2.2.2.2.2.1), (1123, o, out.2.2.2.2.2.2.2.2.2.2.2.2.2.2.1)]) (ov J [(1112, o, out.2.2.2.2.2.2.2.2.2.2.2.2.2.2.2.1)]) X (ova A [((o + 1), a_tape), ((o + 2), out.2.2.2.2.2.2.2.2.2.2.2.2.2.2.2.2.1), ((o + 3), out.2.2.2.2.2.2.2.2.2.2.2.2.2.2.2.2.2.1)]) (ova B [((o + 6), out.2.2.2.2.2.2.2.2.2.2.2.2.2.2.2.2.2.2.1), ((o + 7), out.2.2.2.2.2.2.2.2.2.2.2.2.2.2.2.2.2.2.2)]) Q H → va_S (gA G) s.heap H locs → W p l e ({ frames := 6, cells := 0, slots := 0, locals := 134 } : Room) s m ([.ref o] : List Value).toArray below meth c H locs 0 0 (MQ below (gQ G (some (.int out.1)) K (ov I [(1100, o, out.2.1), (1102, o, out.2.2.1), (1103, o, out.2.2.2.1), (1104, o, out.2.2.2.2.1), (1105, o, out.2.2.2.2.2.1), (1106, o, out.2.2.2.2.2.2.1), (1107, o, out.2.2.2.2.2.2.2.1), (1108, o, out.2.2.2.2.2.2.2.2.1), (1109, o, out.2.2.2.2.2.2.2.2.2.1), (1110, o, out.2.2.2.2.2.2.2.2.2.2.1), (1111, o, out.2.2.2.2.2.2.2.2.2.2.2.1), (1113, o, out.2.2.2.2.2.2.2.2.2.2.2.2.1), (1122, o, out.2.2.2.2.2.2.2.2.2.2.2.2.2.1), (1123, o, out.2.2.2.2.2.2.2.2.2.2.2.2.2.2.1)]) (ov J [(1112, o, out.2.2.2.2.2.2.2.2.2.2.2.2.2.2.2.1)]) X (ova A [((o + 1), a_tape), ((o + 2), out.2.2.2.2.2.2.2.2.2.2.2.2.2.2.2.2.1), ((o + 3), out.2.2.2.2.2.2.2.2.2.2.2.2.2.2.2.2.2.1)]) (ova B [((o + 6), out.2.2.2.2.2.2.2.2.2.2.2.2.2.2.2.2.2.2.1), ((o + 7), out.2.2.2.2.2.2.2.2.2.2.2.2.2.2.2.2.2.2.2)]) Q) ([.ref o] : List Value).toArray s 0 0 (gA G)) (F0 m pc ls [.int out.1]) := fun pc H locs ls hd hR hS => g_iret hx hb hr hlocks hG hR hS rfl hd
  generalize MQ below (gQ G (some (.int out.1)) K (ov I [(1100, o, out.2.1), (1102, o, out.2.2.1), (1103, o, out.2.2.2.1), (1104, o, out.2.2.2.2.1), (1105, o, out.2.2.2.2.2.1), (1106, o, out.2.2.2.2.2.2.1), (1107, o, out.2.2.2.2.2.2.2.1), (1108, o, out.2.2.2.2.2.2.2.2.1), (1109, o, out.2.2.2.2.2.2.2.2.2.1), (1110, o, out.2.2.2.2.2.2.2.2.2.2.1), (1111, o, out.2.2.2.2.2.2.2.2.2.2.2.1), (1113, o, out.2.2.2.2.2.2.2.2.2.2.2.2.1), (1122, o, out.2.2.2.2.2.2.2.2.2.2.2.2.2.1), (1123, o, out.2.2.2.2.2.2.2.2.2.2.2.2.2.2.1)]) (ov J [(1112, o, out.2.2.2.2.2.2.2.2.2.2.2.2.2.2.2.1)]) X (ova A [((o + 1), a_tape), ((o + 2), out.2.2.2.2.2.2.2.2.2.2.2.2.2.2.2.2.1), ((o + 3), out.2.2.2.2.2.2.2.2.2.2.2.2.2.2.2.2.2.1)]) (ova B [((o + 6), out.2.2.2.2.2.2.2.2.2.2.2.2.2.2.2.2.2.2.1), ((o + 7), out.2.2.2.2.2.2.2.2.2.2.2.2.2.2.2.2.2.2.2)]) Q) ([.ref o] : List Value).toArray s 0 0 (gA G) = Z at hend ⊢
  generalize ([.ref o] : List Value).toArray = args at hts hend ⊢
  unfold f14_yard at hf
  refine lv_aload_n hx hb dX14_yard_0 rfl (lv_at hl 0 rfl) ?_
  refine lv_sipush (v := 700) hx hb dX14_yard_1 ls_700 ?_
  obtain ⟨rr1, hrr1, hf⟩ := bind_s hf
  refine g0_cVv (rm := (2, 45)) (As := [.int (700 : Int32)]) (rest := []) ⟨hx, hb, hml, hown, hts⟩ hG hR hS (m14_begin l G K (ov I [(1100, o, i_thrown), (1102, o, i_taped), (1103, o, i_size), (1104, o, i_limit), (1105, o, i_to), (1106, o, i_from), (1107, o, i_kind), (1108, o, i_number), (1109, o, i_sign), (1110, o, i_fault), (1111, o, i_at), (1113, o, i_told), (1122, o, i_isBegun), (1123, o, i_had)]) (ov J [(1112, o, j_word)]) X (ova A [((o + 1), a_tape), ((o + 2), a_now), ((o + 3), a_read)]) (ova B [((o + 6), b_name), ((o + 7), b_readName)]) Q o shM (700 : Int32) i_thrown i_taped i_size i_limit i_to i_from i_kind i_number i_sign i_fault i_isBegun j_word a_tape a_now (ov_get 0 rfl rfl) (ov_get 1 rfl rfl) (ov_get 2 rfl rfl) (ov_get 3 rfl rfl) (ov_get 4 rfl rfl) (ov_get 5 rfl rfl) (ov_get 6 rfl rfl) (ov_get 7 rfl rfl) (ov_get 8 rfl rfl) (ov_get 9 rfl rfl) (ov_get 12 rfl rfl) (ov_get 0 rfl rfl) (ova_get 0 hN_A rfl) (ova_get 1 hN_A rfl) rr1 hrr1) (cwV 1 hts gi_X14_282 rfl rfl rfl hd_X14_begin ⟨Nat.le_of_ble_eq_true rfl, Nat.le_of_ble_eq_true rfl⟩) shM.1 rfl rfl hl.1 (Nat.le_of_ble_eq_true rfl) dX14_yard_4 ⟨Nat.le_refl _, Nat.le_refl _⟩ rfl (fun H locs hR hS => ?_)
  have hR : RS G K (ov I [(1100, o, rr1.1), (1102, o, rr1.2.1), (1103, o, rr1.2.2.1), (1104, o, rr1.2.2.2.1), (1105, o, rr1.2.2.2.2.1), (1106, o, rr1.2.2.2.2.2.1), (1107, o, rr1.2.2.2.2.2.2.1), (1108, o, rr1.2.2.2.2.2.2.2.1), (1109, o, rr1.2.2.2.2.2.2.2.2.1), (1110, o, rr1.2.2.2.2.2.2.2.2.2.1), (1111, o, i_at), (1113, o, i_told), (1122, o, rr1.2.2.2.2.2.2.2.2.2.2.1), (1123, o, i_had)]) (ov J [(1112, o, rr1.2.2.2.2.2.2.2.2.2.2.2.1)]) X (ova A [((o + 1), a_tape), ((o + 2), rr1.2.2.2.2.2.2.2.2.2.2.2.2), ((o + 3), a_read)]) (ova B [((o + 6), b_name), ((o + 7), b_readName)]) Q H := hR.to (ov_merge (l := [(1100, o, i_thrown), (1102, o, i_taped), (1103, o, i_size), (1104, o, i_limit), (1105, o, i_to), (1106, o, i_from), (1107, o, i_kind), (1108, o, i_number), (1109, o, i_sign), (1110, o, i_fault), (1111, o, i_at), (1113, o, i_told), (1122, o, i_isBegun), (1123, o, i_had)]) rfl [0, 1, 2, 3, 4, 5, 6, 7, 8, 9, 12] [(1100, o, rr1.1), (1102, o, rr1.2.1), (1103, o, rr1.2.2.1), (1104, o, rr1.2.2.2.1), (1105, o, rr1.2.2.2.2.1), (1106, o, rr1.2.2.2.2.2.1), (1107, o, rr1.2.2.2.2.2.2.1), (1108, o, rr1.2.2.2.2.2.2.2.1), (1109, o, rr1.2.2.2.2.2.2.2.2.1), (1110, o, rr1.2.2.2.2.2.2.2.2.2.1), (1122, o, rr1.2.2.2.2.2.2.2.2.2.2.1)] rfl rfl) (ov_merge (l := [(1112, o, j_word)]) rfl [0] [(1112, o, rr1.2.2.2.2.2.2.2.2.2.2.2.1)] rfl rfl) rfl (ova_merge (l := [((o + 1), a_tape), ((o + 2), a_now), ((o + 3), a_read)]) hN_A [0, 1] [((o + 1), a_tape), ((o + 2), rr1.2.2.2.2.2.2.2.2.2.2.2.2)] rfl rfl) rfl rfl
  refine lv_aload_n hx hb dX14_yard_7 rfl (lv_at hl 0 rfl) ?_
  refine g_getr (b := (o + 3)) hx hb hts hown hG hR gFx_X14_16_11 shM.1 ((shM.2 2 _ rfl).2) dX14_yard_8 ?_
  obtain ⟨rr2, hrr2, hf⟩ := bind_s hf
  refine g0_cSv (rm := (0, 0)) (As := [.ref (o + 3)]) (rest := []) ⟨hx, hb, hml, hown, hts⟩ hG hR hS (m14_standard l G K (ov I [(1100, o, rr1.1), (1102, o, rr1.2.1), (1103, o, rr1.2.2.1), (1104, o, rr1.2.2.2.1), (1105, o, rr1.2.2.2.2.1), (1106, o, rr1.2.2.2.2.2.1), (1107, o, rr1.2.2.2.2.2.2.1), (1108, o, rr1.2.2.2.2.2.2.2.1), (1109, o, rr1.2.2.2.2.2.2.2.2.1), (1110, o, rr1.2.2.2.2.2.2.2.2.2.1), (1111, o, i_at), (1113, o, i_told), (1122, o, rr1.2.2.2.2.2.2.2.2.2.2.1), (1123, o, i_had)]) (ov J [(1112, o, rr1.2.2.2.2.2.2.2.2.2.2.2.1)]) X (ova A [((o + 1), a_tape), ((o + 2), rr1.2.2.2.2.2.2.2.2.2.2.2.2), ((o + 3), a_read)]) (ova B [((o + 6), b_name), ((o + 7), b_readName)]) Q (o + 3) 200 k_a_read a_read (ova_get 2 hN_A rfl) rr2 hrr2) (cwS 1 hts gi_X14_243 rfl rfl rfl hd_X14_standard ⟨Nat.le_of_ble_eq_true rfl, Nat.le_of_ble_eq_true rfl⟩) rfl hl.1 (Nat.le_of_ble_eq_true rfl) dX14_yard_11 ⟨Nat.le_refl _, Nat.le_refl _⟩ rfl (fun H locs hR hS => ?_)
  have hR : RS G K (ov I [(1100, o, rr1.1), (1102, o, rr1.2.1), (1103, o, rr1.2.2.1), (1104, o, rr1.2.2.2.1), (1105, o, rr1.2.2.2.2.1), (1106, o, rr1.2.2.2.2.2.1), (1107, o, rr1.2.2.2.2.2.2.1), (1108, o, rr1.2.2.2.2.2.2.2.1), (1109, o, rr1.2.2.2.2.2.2.2.2.1), (1110, o, rr1.2.2.2.2.2.2.2.2.2.1), (1111, o, i_at), (1113, o, i_told), (1122, o, rr1.2.2.2.2.2.2.2.2.2.2.1), (1123, o, i_had)]) (ov J [(1112, o, rr1.2.2.2.2.2.2.2.2.2.2.2.1)]) X (ova A [((o + 1), a_tape), ((o + 2), rr1.2.2.2.2.2.2.2.2.2.2.2.2), ((o + 3), rr2)]) (ova B [((o + 6), b_name), ((o + 7), b_readName)]) Q H := hR.to rfl rfl rfl (ova_merge (l := [((o + 1), a_tape), ((o + 2), rr1.2.2.2.2.2.2.2.2.2.2.2.2), ((o + 3), a_read)]) hN_A [2] [((o + 3), rr2)] rfl rfl) rfl rfl
  refine lv_aload_n hx hb dX14_yard_14 rfl (lv_at hl 0 rfl) ?_
  refine lv_iconst (v := 0) hx hb dX14_yard_15 li_0 ?_
  refine n_puti (li' := [(1100, o, rr1.1), (1102, o, rr1.2.1), (1103, o, rr1.2.2.1), (1104, o, rr1.2.2.2.1), (1105, o, rr1.2.2.2.2.1), (1106, o, rr1.2.2.2.2.2.1), (1107, o, rr1.2.2.2.2.2.2.1), (1108, o, rr1.2.2.2.2.2.2.2.1), (1109, o, rr1.2.2.2.2.2.2.2.2.1), (1110, o, rr1.2.2.2.2.2.2.2.2.2.1), (1111, o, i_at), (1113, o, i_told), (1122, o, rr1.2.2.2.2.2.2.2.2.2.2.1), (1123, o, (0 : Int32))]) hx hb hts hown hG hR hS gPi_X14_255_11 shM.1 13 rfl rfl rfl dX14_yard_16 (fun H locs hR hS => ?_)
  refine lv_iconst (v := 0) hx hb dX14_yard_19 li_0 ?_
  refine lv_istore_n (lv' := [(1, .int (0 : Int32)), (0, .ref o)]) hx hb dX14_yard_20 rfl hl (by decide) rfl (fun ls hl => ?_)
  obtain ⟨rl3, hw3, hfo3⟩ := bind_s hf
  have hx3_0 : ∀ (x3_0 : Int32 × Int32 × Int32 × Int32 × Int32 × Int32 × Int32 × Int32 × Int32 × Int32 × Int64 × (Nat → Int32) × (Nat → Int64)), f14_yard_e3_0 b_name rr1 x3_0 = some out → ∀ (H : Heap) (locs : List Loc) (ls : Array Slot), RS G K (ov I [(1100, o, rr1.1), (1102, o, rr1.2.1), (1103, o, rr1.2.2.1), (1104, o, rr1.2.2.2.1), (1105, o, x3_0.2.1), (1106, o, x3_0.2.2.1), (1107, o, x3_0.2.2.2.1), (1108, o, x3_0.2.2.2.2.1), (1109, o, x3_0.2.2.2.2.2.1), (1110, o, x3_0.2.2.2.2.2.2.1), (1111, o, x3_0.2.2.2.2.2.2.2.1), (1113, o, x3_0.2.2.2.2.2.2.2.2.1), (1122, o, rr1.2.2.2.2.2.2.2.2.2.2.1), (1123, o, x3_0.2.2.2.2.2.2.2.2.2.1)]) (ov J [(1112, o, x3_0.2.2.2.2.2.2.2.2.2.2.1)]) X (ova A [((o + 1), a_tape), ((o + 2), rr1.2.2.2.2.2.2.2.2.2.2.2.2), ((o + 3), x3_0.2.2.2.2.2.2.2.2.2.2.2.1)]) (ova B [((o + 6), b_name), ((o + 7), x3_0.2.2.2.2.2.2.2.2.2.2.2.2)]) Q H → va_S (gA G) s.heap H locs → lv_has ls 3 [(0, .ref o), (1, .int x3_0.1)] → W p l e ({ frames := 6, cells := 0, slots := 0, locals := 134 } : Room) s m args below meth c H locs 0 0 Z (F0 m 48 ls []) := by
    intro x3_0 hf H locs ls hR hS hl
    unfold f14_yard_e3_0 at hf
    refine lv_iconst (v := 0) hx hb dX14_yard_48 li_0 ?_
    refine lv_istore_n (lv' := [(2, .int (0 : Int32)), (0, .ref o), (1, .int x3_0.1)]) hx hb dX14_yard_49 rfl hl (by decide) rfl (fun ls hl => ?_)
    obtain ⟨rl4, hw4, hfo4⟩ := bind_s hf
    have hx4_0 : ∀ (x4_0 : (Nat → Int32)), f14_yard_e4_0 b_name rr1 x3_0 x4_0 = some out → ∀ (H : Heap) (locs : List Loc) (ls : Array Slot), RS G K (ov I [(1100, o, rr1.1), (1102, o, rr1.2.1), (1103, o, rr1.2.2.1), (1104, o, rr1.2.2.2.1), (1105, o, x3_0.2.1), (1106, o, x3_0.2.2.1), (1107, o, x3_0.2.2.2.1), (1108, o, x3_0.2.2.2.2.1), (1109, o, x3_0.2.2.2.2.2.1), (1110, o, x3_0.2.2.2.2.2.2.1), (1111, o, x3_0.2.2.2.2.2.2.2.1), (1113, o, x3_0.2.2.2.2.2.2.2.2.1), (1122, o, rr1.2.2.2.2.2.2.2.2.2.2.1), (1123, o, x3_0.2.2.2.2.2.2.2.2.2.1)]) (ov J [(1112, o, x3_0.2.2.2.2.2.2.2.2.2.2.1)]) X (ova A [((o + 1), a_tape), ((o + 2), x4_0), ((o + 3), x3_0.2.2.2.2.2.2.2.2.2.2.2.1)]) (ova B [((o + 6), b_name), ((o + 7), x3_0.2.2.2.2.2.2.2.2.2.2.2.2)]) Q H → va_S (gA G) s.heap H locs → lv_has ls 3 [(0, .ref o), (1, .int x3_0.1)] → W p l e ({ frames := 6, cells := 0, slots := 0, locals := 134 } : Room) s m args below meth c H locs 0 0 Z (F0 m 75 ls []) := by
      intro x4_0 hf H locs ls hR hS hl
      unfold f14_yard_e4_0 at hf
      refine lv_iconst (v := 0) hx hb dX14_yard_75 li_0 ?_
      refine lv_istore_n (lv' := [(2, .int (0 : Int32)), (0, .ref o), (1, .int x3_0.1)]) hx hb dX14_yard_76 rfl hl (by decide) rfl (fun ls hl => ?_)
      obtain ⟨rl5, hw5, hfo5⟩ := bind_s hf
      have hx5_0 : ∀ (x5_0 : (Nat → Int64)), f14_yard_e5_0 rr1 x3_0 x4_0 x5_0 = some out → ∀ (H : Heap) (locs : List Loc) (ls : Array Slot), RS G K (ov I [(1100, o, rr1.1), (1102, o, rr1.2.1), (1103, o, rr1.2.2.1), (1104, o, rr1.2.2.2.1), (1105, o, x3_0.2.1), (1106, o, x3_0.2.2.1), (1107, o, x3_0.2.2.2.1), (1108, o, x3_0.2.2.2.2.1), (1109, o, x3_0.2.2.2.2.2.1), (1110, o, x3_0.2.2.2.2.2.2.1), (1111, o, x3_0.2.2.2.2.2.2.2.1), (1113, o, x3_0.2.2.2.2.2.2.2.2.1), (1122, o, rr1.2.2.2.2.2.2.2.2.2.2.1), (1123, o, x3_0.2.2.2.2.2.2.2.2.2.1)]) (ov J [(1112, o, x3_0.2.2.2.2.2.2.2.2.2.2.1)]) X (ova A [((o + 1), a_tape), ((o + 2), x4_0), ((o + 3), x3_0.2.2.2.2.2.2.2.2.2.2.2.1)]) (ova B [((o + 6), x5_0), ((o + 7), x3_0.2.2.2.2.2.2.2.2.2.2.2.2)]) Q H → va_S (gA G) s.heap H locs → lv_has ls 3 [(0, .ref o), (1, .int x3_0.1)] → W p l e ({ frames := 6, cells := 0, slots := 0, locals := 134 } : Room) s m args below meth c H locs 0 0 Z (F0 m 101 ls []) := by
        intro x5_0 hf H locs ls hR hS hl
        unfold f14_yard_e5_0 at hf
        refine lv_aload_n hx hb dX14_yard_101 rfl (lv_at hl 0 rfl) ?_
        refine g_getr (b := (o + 2)) hx hb hts hown hG hR gFx_X14_13_11 shM.1 ((shM.2 1 _ rfl).2) dX14_yard_102 ?_
        refine lv_sipush (v := 200) hx hb dX14_yard_105 ls_200 ?_
        refine lv_iconst (v := 0) hx hb dX14_yard_108 li_0 ?_
        obtain ⟨c6, hf⟩ := gd_some hf
        obtain ⟨u7, eu7, hf⟩ := lt_some hf
        refine n_iast (la' := [((o + 1), a_tape), ((o + 2), u7), ((o + 3), x3_0.2.2.2.2.2.2.2.2.2.2.2.1)]) hx hb hG hR hS k_a_now c6 hN_A 1 rfl eu7 rfl dX14_yard_109 (fun H locs hR hS => ?_)
        refine lv_aload_n hx hb dX14_yard_110 rfl (lv_at hl 0 rfl) ?_
        refine g_getr (b := (o + 2)) hx hb hts hown hG hR gFx_X14_13_11 shM.1 ((shM.2 1 _ rfl).2) dX14_yard_111 ?_
        refine lv_sipush (v := 540) hx hb dX14_yard_114 ls_540 ?_
        refine lv_iconst (v := 0) hx hb dX14_yard_117 li_0 ?_
        obtain ⟨c8, hf⟩ := gd_some hf
        obtain ⟨u9, eu9, hf⟩ := lt_some hf
        refine n_iast (la' := [((o + 1), a_tape), ((o + 2), u9), ((o + 3), x3_0.2.2.2.2.2.2.2.2.2.2.2.1)]) hx hb hG hR hS k_a_now c8 hN_A 1 rfl eu9 rfl dX14_yard_118 (fun H locs hR hS => ?_)
        refine lv_iload_n hx hb dX14_yard_119 rfl (lv_at hl 1 rfl) ?_
        obtain rfl := some_i hf
        exact hend _ _ _ _ dX14_yard_120 hR hS
      refine whl_walk (P := fun (s5 : Int32 × (Nat → Int64)) => ∀ (H : Heap) (locs : List Loc) (ls : Array Slot), RS G K (ov I [(1100, o, rr1.1), (1102, o, rr1.2.1), (1103, o, rr1.2.2.1), (1104, o, rr1.2.2.2.1), (1105, o, x3_0.2.1), (1106, o, x3_0.2.2.1), (1107, o, x3_0.2.2.2.1), (1108, o, x3_0.2.2.2.2.1), (1109, o, x3_0.2.2.2.2.2.1), (1110, o, x3_0.2.2.2.2.2.2.1), (1111, o, x3_0.2.2.2.2.2.2.2.1), (1113, o, x3_0.2.2.2.2.2.2.2.2.1), (1122, o, rr1.2.2.2.2.2.2.2.2.2.2.1), (1123, o, x3_0.2.2.2.2.2.2.2.2.2.1)]) (ov J [(1112, o, x3_0.2.2.2.2.2.2.2.2.2.2.1)]) X (ova A [((o + 1), a_tape), ((o + 2), x4_0), ((o + 3), x3_0.2.2.2.2.2.2.2.2.2.2.2.1)]) (ova B [((o + 6), s5.2), ((o + 7), x3_0.2.2.2.2.2.2.2.2.2.2.2.2)]) Q H → va_S (gA G) s.heap H locs → lv_has ls 3 [(0, .ref o), (1, .int x3_0.1), (2, .int s5.1)] → W p l e ({ frames := 6, cells := 0, slots := 0, locals := 134 } : Room) s m args below meth c H locs 0 0 Z (F0 m 77 ls [])) (r := rl5) ?_ FU _ hw5 _ _ _ hR hS (lv_sub hl [1, 2, 0] rfl)
      clear hR hS hl hf
      intro s5 o5 hf hk5 H locs ls hR hS hl
      obtain ⟨w5_2, w5_b_name⟩ := s5
      have hf : f14_yard_s5 x3_0 w5_2 w5_b_name = some o5 := hf
      have hR : RS G K (ov I [(1100, o, rr1.1), (1102, o, rr1.2.1), (1103, o, rr1.2.2.1), (1104, o, rr1.2.2.2.1), (1105, o, x3_0.2.1), (1106, o, x3_0.2.2.1), (1107, o, x3_0.2.2.2.1), (1108, o, x3_0.2.2.2.2.1), (1109, o, x3_0.2.2.2.2.2.1), (1110, o, x3_0.2.2.2.2.2.2.1), (1111, o, x3_0.2.2.2.2.2.2.2.1), (1113, o, x3_0.2.2.2.2.2.2.2.2.1), (1122, o, rr1.2.2.2.2.2.2.2.2.2.2.1), (1123, o, x3_0.2.2.2.2.2.2.2.2.2.1)]) (ov J [(1112, o, x3_0.2.2.2.2.2.2.2.2.2.2.1)]) X (ova A [((o + 1), a_tape), ((o + 2), x4_0), ((o + 3), x3_0.2.2.2.2.2.2.2.2.2.2.2.1)]) (ova B [((o + 6), w5_b_name), ((o + 7), x3_0.2.2.2.2.2.2.2.2.2.2.2.2)]) Q H := hR
      have hl : lv_has ls 3 [(0, .ref o), (1, .int x3_0.1), (2, .int w5_2)] := hl
      unfold f14_yard_s5 at hf
      refine lv_iload_n hx hb dX14_yard_77 rfl (lv_at hl 2 rfl) ?_
      refine lv_bipush (v := 12) hx hb dX14_yard_78 lb_12 ?_
      refine lv_icmp_ge (tgt := 101) hx hb dX14_yard_80 (by decide) (fun c10 => ?_) (fun c10 => ?_)
      · have hf := ite_t c10 hf
        obtain rfl := some_i hf
        replace hk5 : _ = rl5 := hk5
        subst hk5
        exact hx5_0 w5_b_name hfo5 _ _ _ hR hS (lv_sub hl [0, 1] rfl)
      · have hf := ite_f c10 hf
        refine lv_aload_n hx hb dX14_yard_83 rfl (lv_at hl 0 rfl) ?_
        refine g_getr (b := (o + 6)) hx hb hts hown hG hR gFx_X14_25_11 shM.1 ((shM.2 5 _ rfl).2) dX14_yard_84 ?_
        refine lv_iload_n hx hb dX14_yard_87 rfl (lv_at hl 2 rfl) ?_
        refine lv_aload_n hx hb dX14_yard_88 rfl (lv_at hl 0 rfl) ?_
        refine g_getr (b := (o + 7)) hx hb hts hown hG hR gFx_X14_29_11 shM.1 ((shM.2 6 _ rfl).2) dX14_yard_89 ?_
        refine lv_iload_n hx hb dX14_yard_92 rfl (lv_at hl 2 rfl) ?_
        obtain ⟨c11, hf⟩ := gd_some hf
        obtain ⟨v12, ev12, hf⟩ := lt_some hf
        refine n_lald (x := x3_0.2.2.2.2.2.2.2.2.2.2.2.2) hx hb hG hR k_b_readName c11 (ova_get 1 hN_B rfl) ev12 dX14_yard_93 ?_
        obtain ⟨c13, hf⟩ := gd_some hf
        obtain ⟨u14, eu14, hf⟩ := lt_some hf
        refine n_last (la' := [((o + 6), u14), ((o + 7), x3_0.2.2.2.2.2.2.2.2.2.2.2.2)]) hx hb hG hR hS k_b_name c13 hN_B 0 rfl eu14 rfl dX14_yard_94 (fun H locs hR hS => ?_)
        obtain ⟨v15, ev15, hf⟩ := lt_some hf
        refine lv_iinc (k := 2) (v := v15) (lv' := [(2, .int v15), (0, .ref o), (1, .int x3_0.1)]) hx hb dX14_yard_95 hl rfl (by rw [ev15]; rfl) (by decide) rfl (fun ls hl => ?_)
        refine lv_goto (tgt := 77) hx hb dX14_yard_98 (by decide) ?_
        obtain rfl := some_i hf
        exact hk5 _ _ _ hR hS (lv_sub hl [1, 2, 0] rfl)
    refine whl_walk (P := fun (s4 : Int32 × (Nat → Int32)) => ∀ (H : Heap) (locs : List Loc) (ls : Array Slot), RS G K (ov I [(1100, o, rr1.1), (1102, o, rr1.2.1), (1103, o, rr1.2.2.1), (1104, o, rr1.2.2.2.1), (1105, o, x3_0.2.1), (1106, o, x3_0.2.2.1), (1107, o, x3_0.2.2.2.1), (1108, o, x3_0.2.2.2.2.1), (1109, o, x3_0.2.2.2.2.2.1), (1110, o, x3_0.2.2.2.2.2.2.1), (1111, o, x3_0.2.2.2.2.2.2.2.1), (1113, o, x3_0.2.2.2.2.2.2.2.2.1), (1122, o, rr1.2.2.2.2.2.2.2.2.2.2.1), (1123, o, x3_0.2.2.2.2.2.2.2.2.2.1)]) (ov J [(1112, o, x3_0.2.2.2.2.2.2.2.2.2.2.1)]) X (ova A [((o + 1), a_tape), ((o + 2), s4.2), ((o + 3), x3_0.2.2.2.2.2.2.2.2.2.2.2.1)]) (ova B [((o + 6), b_name), ((o + 7), x3_0.2.2.2.2.2.2.2.2.2.2.2.2)]) Q H → va_S (gA G) s.heap H locs → lv_has ls 3 [(0, .ref o), (1, .int x3_0.1), (2, .int s4.1)] → W p l e ({ frames := 6, cells := 0, slots := 0, locals := 134 } : Room) s m args below meth c H locs 0 0 Z (F0 m 50 ls [])) (r := rl4) ?_ FU _ hw4 _ _ _ hR hS (lv_sub hl [1, 2, 0] rfl)
    clear hR hS hl hf
    intro s4 o4 hf hk4 H locs ls hR hS hl
    obtain ⟨w4_2, w4_a_now⟩ := s4
    have hf : f14_yard_s4 x3_0 w4_2 w4_a_now = some o4 := hf
    have hR : RS G K (ov I [(1100, o, rr1.1), (1102, o, rr1.2.1), (1103, o, rr1.2.2.1), (1104, o, rr1.2.2.2.1), (1105, o, x3_0.2.1), (1106, o, x3_0.2.2.1), (1107, o, x3_0.2.2.2.1), (1108, o, x3_0.2.2.2.2.1), (1109, o, x3_0.2.2.2.2.2.1), (1110, o, x3_0.2.2.2.2.2.2.1), (1111, o, x3_0.2.2.2.2.2.2.2.1), (1113, o, x3_0.2.2.2.2.2.2.2.2.1), (1122, o, rr1.2.2.2.2.2.2.2.2.2.2.1), (1123, o, x3_0.2.2.2.2.2.2.2.2.2.1)]) (ov J [(1112, o, x3_0.2.2.2.2.2.2.2.2.2.2.1)]) X (ova A [((o + 1), a_tape), ((o + 2), w4_a_now), ((o + 3), x3_0.2.2.2.2.2.2.2.2.2.2.2.1)]) (ova B [((o + 6), b_name), ((o + 7), x3_0.2.2.2.2.2.2.2.2.2.2.2.2)]) Q H := hR
    have hl : lv_has ls 3 [(0, .ref o), (1, .int x3_0.1), (2, .int w4_2)] := hl
    unfold f14_yard_s4 at hf
    refine lv_iload_n hx hb dX14_yard_50 rfl (lv_at hl 2 rfl) ?_
    refine lv_sipush (v := 200) hx hb dX14_yard_51 ls_200 ?_
    refine lv_icmp_ge (tgt := 75) hx hb dX14_yard_54 (by decide) (fun c16 => ?_) (fun c16 => ?_)
    · have hf := ite_t c16 hf
      obtain rfl := some_i hf
      replace hk4 : _ = rl4 := hk4
      subst hk4
      exact hx4_0 w4_a_now hfo4 _ _ _ hR hS (lv_sub hl [0, 1] rfl)
    · have hf := ite_f c16 hf
      refine lv_aload_n hx hb dX14_yard_57 rfl (lv_at hl 0 rfl) ?_
      refine g_getr (b := (o + 2)) hx hb hts hown hG hR gFx_X14_13_11 shM.1 ((shM.2 1 _ rfl).2) dX14_yard_58 ?_
      refine lv_iload_n hx hb dX14_yard_61 rfl (lv_at hl 2 rfl) ?_
      refine lv_aload_n hx hb dX14_yard_62 rfl (lv_at hl 0 rfl) ?_
      refine g_getr (b := (o + 3)) hx hb hts hown hG hR gFx_X14_16_11 shM.1 ((shM.2 2 _ rfl).2) dX14_yard_63 ?_
      refine lv_iload_n hx hb dX14_yard_66 rfl (lv_at hl 2 rfl) ?_
      obtain ⟨c17, hf⟩ := gd_some hf
      obtain ⟨v18, ev18, hf⟩ := lt_some hf
      refine n_iald (x := x3_0.2.2.2.2.2.2.2.2.2.2.2.1) hx hb hG hR k_a_read c17 (ova_get 2 hN_A rfl) ev18 dX14_yard_67 ?_
      obtain ⟨c19, hf⟩ := gd_some hf
      obtain ⟨u20, eu20, hf⟩ := lt_some hf
      refine n_iast (la' := [((o + 1), a_tape), ((o + 2), u20), ((o + 3), x3_0.2.2.2.2.2.2.2.2.2.2.2.1)]) hx hb hG hR hS k_a_now c19 hN_A 1 rfl eu20 rfl dX14_yard_68 (fun H locs hR hS => ?_)
      obtain ⟨v21, ev21, hf⟩ := lt_some hf
      refine lv_iinc (k := 2) (v := v21) (lv' := [(2, .int v21), (0, .ref o), (1, .int x3_0.1)]) hx hb dX14_yard_69 hl rfl (by rw [ev21]; rfl) (by decide) rfl (fun ls hl => ?_)
      refine lv_goto (tgt := 50) hx hb dX14_yard_72 (by decide) ?_
      obtain rfl := some_i hf
      exact hk4 _ _ _ hR hS (lv_sub hl [1, 2, 0] rfl)
  have hx3_1 : ∀ (x3_1 : Int32 × Int32 × Int32 × Int32 × Int32 × Int32 × Int32 × Int32 × Int32 × Int64 × (Nat → Int32) × (Nat → Int64)), f14_yard_e3_1 b_name rr1 x3_1 = some out → ∀ (H : Heap) (locs : List Loc) (ls : Array Slot), RS G K (ov I [(1100, o, rr1.1), (1102, o, rr1.2.1), (1103, o, rr1.2.2.1), (1104, o, rr1.2.2.2.1), (1105, o, x3_1.1), (1106, o, x3_1.2.1), (1107, o, x3_1.2.2.1), (1108, o, x3_1.2.2.2.1), (1109, o, x3_1.2.2.2.2.1), (1110, o, x3_1.2.2.2.2.2.1), (1111, o, x3_1.2.2.2.2.2.2.1), (1113, o, x3_1.2.2.2.2.2.2.2.1), (1122, o, rr1.2.2.2.2.2.2.2.2.2.2.1), (1123, o, x3_1.2.2.2.2.2.2.2.2.1)]) (ov J [(1112, o, x3_1.2.2.2.2.2.2.2.2.2.1)]) X (ova A [((o + 1), a_tape), ((o + 2), rr1.2.2.2.2.2.2.2.2.2.2.2.2), ((o + 3), x3_1.2.2.2.2.2.2.2.2.2.2.1)]) (ova B [((o + 6), b_name), ((o + 7), x3_1.2.2.2.2.2.2.2.2.2.2.2)]) Q H → va_S (gA G) s.heap H locs → lv_has ls 3 [(0, .ref o)] → W p l e ({ frames := 6, cells := 0, slots := 0, locals := 134 } : Room) s m args below meth c H locs 0 0 Z (F0 m 35 ls []) := by
    intro x3_1 hf H locs ls hR hS hl
    unfold f14_yard_e3_1 at hf
    refine lv_iconst (v := -1) hx hb dX14_yard_35 li_m1 ?_
    refine lv_aload_n hx hb dX14_yard_36 rfl (lv_at hl 0 rfl) ?_
    refine n_geti (v := x3_1.2.2.2.2.2.2.1) hx hb hts hown hG hR gFi_X14_213_11 shM.1 (ov_get 10 rfl rfl) dX14_yard_37 ?_
    obtain ⟨v22, ev22, hf⟩ := lt_some hf
    refine n_isub hx hb ev22 dX14_yard_40 ?_
    obtain rfl := some_i hf
    exact hend _ _ _ _ dX14_yard_41 hR hS
  refine whl_walk (P := fun (s3 : Int32 × Int32 × Int32 × Int32 × Int32 × Int32 × Int32 × Int32 × Int32 × Int32 × Int64 × (Nat → Int32) × (Nat → Int64)) => ∀ (H : Heap) (locs : List Loc) (ls : Array Slot), RS G K (ov I [(1100, o, rr1.1), (1102, o, rr1.2.1), (1103, o, rr1.2.2.1), (1104, o, rr1.2.2.2.1), (1105, o, s3.2.1), (1106, o, s3.2.2.1), (1107, o, s3.2.2.2.1), (1108, o, s3.2.2.2.2.1), (1109, o, s3.2.2.2.2.2.1), (1110, o, s3.2.2.2.2.2.2.1), (1111, o, s3.2.2.2.2.2.2.2.1), (1113, o, s3.2.2.2.2.2.2.2.2.1), (1122, o, rr1.2.2.2.2.2.2.2.2.2.2.1), (1123, o, s3.2.2.2.2.2.2.2.2.2.1)]) (ov J [(1112, o, s3.2.2.2.2.2.2.2.2.2.2.1)]) X (ova A [((o + 1), a_tape), ((o + 2), rr1.2.2.2.2.2.2.2.2.2.2.2.2), ((o + 3), s3.2.2.2.2.2.2.2.2.2.2.2.1)]) (ova B [((o + 6), b_name), ((o + 7), s3.2.2.2.2.2.2.2.2.2.2.2.2)]) Q H → va_S (gA G) s.heap H locs → lv_has ls 3 [(0, .ref o), (1, .int s3.1)] → W p l e ({ frames := 6, cells := 0, slots := 0, locals := 134 } : Room) s m args below meth c H locs 0 0 Z (F0 m 21 ls [])) (r := rl3) ?_ FU _ hw3 _ _ _ hR hS (lv_sub hl [1, 0] rfl)
  clear hR hS hl hf
  intro s3 o3 hf hk3 H locs ls hR hS hl
  obtain ⟨w3_1, w3_i_to, w3_i_from, w3_i_kind, w3_i_number, w3_i_sign, w3_i_fault, w3_i_at, w3_i_told, w3_i_had, w3_j_word, w3_a_read, w3_b_readName⟩ := s3
  have hf : f14_yard_s3 a_tape rr1 w3_1 w3_i_to w3_i_from w3_i_kind w3_i_number w3_i_sign w3_i_fault w3_i_at w3_i_told w3_i_had w3_j_word w3_a_read w3_b_readName = some o3 := hf
  have hR : RS G K (ov I [(1100, o, rr1.1), (1102, o, rr1.2.1), (1103, o, rr1.2.2.1), (1104, o, rr1.2.2.2.1), (1105, o, w3_i_to), (1106, o, w3_i_from), (1107, o, w3_i_kind), (1108, o, w3_i_number), (1109, o, w3_i_sign), (1110, o, w3_i_fault), (1111, o, w3_i_at), (1113, o, w3_i_told), (1122, o, rr1.2.2.2.2.2.2.2.2.2.2.1), (1123, o, w3_i_had)]) (ov J [(1112, o, w3_j_word)]) X (ova A [((o + 1), a_tape), ((o + 2), rr1.2.2.2.2.2.2.2.2.2.2.2.2), ((o + 3), w3_a_read)]) (ova B [((o + 6), b_name), ((o + 7), w3_b_readName)]) Q H := hR
  have hl : lv_has ls 3 [(0, .ref o), (1, .int w3_1)] := hl
  unfold f14_yard_s3 at hf
  refine lv_aload_n hx hb dX14_yard_21 rfl (lv_at hl 0 rfl) ?_
  refine n_geti (v := w3_i_kind) hx hb hts hown hG hR gFi_X14_170_11 shM.1 (ov_get 6 rfl rfl) dX14_yard_22 ?_
  refine lv_if_eq (tgt := 48) hx hb dX14_yard_25 (by decide) (fun c23 => ?_) (fun c23 => ?_)
  · have hf := ite_t c23 hf
    obtain rfl := some_i hf
    replace hk3 : _ = rl3 := hk3
    subst hk3
    exact hx3_0 (w3_1, w3_i_to, w3_i_from, w3_i_kind, w3_i_number, w3_i_sign, w3_i_fault, w3_i_at, w3_i_told, w3_i_had, w3_j_word, w3_a_read, w3_b_readName) (el_l hfo3) _ _ _ hR hS (lv_sub hl [0, 1] rfl)
  · have hf := ite_f c23 hf
    refine lv_aload_n hx hb dX14_yard_28 rfl (lv_at hl 0 rfl) ?_
    obtain ⟨rr24, hrr24, hf⟩ := bind_s hf
    refine g0_cV (rm := (5, 112)) (As := []) (rest := []) ⟨hx, hb, hml, hown, hts⟩ hG hR hS (m14_readLine l G K (ov I [(1100, o, rr1.1), (1102, o, rr1.2.1), (1103, o, rr1.2.2.1), (1104, o, rr1.2.2.2.1), (1105, o, w3_i_to), (1106, o, w3_i_from), (1107, o, w3_i_kind), (1108, o, w3_i_number), (1109, o, w3_i_sign), (1110, o, w3_i_fault), (1111, o, w3_i_at), (1113, o, w3_i_told), (1122, o, rr1.2.2.2.2.2.2.2.2.2.2.1), (1123, o, w3_i_had)]) (ov J [(1112, o, w3_j_word)]) X (ova A [((o + 1), a_tape), ((o + 2), rr1.2.2.2.2.2.2.2.2.2.2.2.2), ((o + 3), w3_a_read)]) (ova B [((o + 6), b_name), ((o + 7), w3_b_readName)]) Q o shM rr1.2.2.1 rr1.2.2.2.1 w3_i_to w3_i_from w3_i_kind w3_i_number w3_i_sign w3_i_fault w3_i_at w3_i_told w3_i_had w3_j_word a_tape w3_a_read w3_b_readName (ov_get 2 rfl rfl) (ov_get 3 rfl rfl) (ov_get 4 rfl rfl) (ov_get 5 rfl rfl) (ov_get 6 rfl rfl) (ov_get 7 rfl rfl) (ov_get 8 rfl rfl) (ov_get 9 rfl rfl) (ov_get 10 rfl rfl) (ov_get 11 rfl rfl) (ov_get 13 rfl rfl) (ov_get 0 rfl rfl) (ova_get 0 hN_A rfl) (ova_get 2 hN_A rfl) (ova_get 1 hN_B rfl) rr24 hrr24) (cwV 0 hts gi_X14_285 rfl rfl rfl hd_X14_readLine ⟨Nat.le_of_ble_eq_true rfl, Nat.le_of_ble_eq_true rfl⟩) shM.1 rfl rfl hl.1 (Nat.le_of_ble_eq_true rfl) dX14_yard_29 ⟨Nat.le_refl _, Nat.le_refl _⟩ rfl (fun H locs hR hS => ?_)
    have hR : RS G K (ov I [(1100, o, rr1.1), (1102, o, rr1.2.1), (1103, o, rr1.2.2.1), (1104, o, rr1.2.2.2.1), (1105, o, rr24.2.1), (1106, o, rr24.2.2.1), (1107, o, rr24.2.2.2.1), (1108, o, rr24.2.2.2.2.1), (1109, o, rr24.2.2.2.2.2.1), (1110, o, rr24.2.2.2.2.2.2.1), (1111, o, rr24.2.2.2.2.2.2.2.1), (1113, o, rr24.2.2.2.2.2.2.2.2.1), (1122, o, rr1.2.2.2.2.2.2.2.2.2.2.1), (1123, o, rr24.2.2.2.2.2.2.2.2.2.1)]) (ov J [(1112, o, rr24.2.2.2.2.2.2.2.2.2.2.1)]) X (ova A [((o + 1), a_tape), ((o + 2), rr1.2.2.2.2.2.2.2.2.2.2.2.2), ((o + 3), rr24.2.2.2.2.2.2.2.2.2.2.2.1)]) (ova B [((o + 6), b_name), ((o + 7), rr24.2.2.2.2.2.2.2.2.2.2.2.2)]) Q H := hR.to (ov_merge (l := [(1100, o, rr1.1), (1102, o, rr1.2.1), (1103, o, rr1.2.2.1), (1104, o, rr1.2.2.2.1), (1105, o, w3_i_to), (1106, o, w3_i_from), (1107, o, w3_i_kind), (1108, o, w3_i_number), (1109, o, w3_i_sign), (1110, o, w3_i_fault), (1111, o, w3_i_at), (1113, o, w3_i_told), (1122, o, rr1.2.2.2.2.2.2.2.2.2.2.1), (1123, o, w3_i_had)]) rfl [4, 5, 6, 7, 8, 9, 10, 11, 13] [(1105, o, rr24.2.1), (1106, o, rr24.2.2.1), (1107, o, rr24.2.2.2.1), (1108, o, rr24.2.2.2.2.1), (1109, o, rr24.2.2.2.2.2.1), (1110, o, rr24.2.2.2.2.2.2.1), (1111, o, rr24.2.2.2.2.2.2.2.1), (1113, o, rr24.2.2.2.2.2.2.2.2.1), (1123, o, rr24.2.2.2.2.2.2.2.2.2.1)] rfl rfl) (ov_merge (l := [(1112, o, w3_j_word)]) rfl [0] [(1112, o, rr24.2.2.2.2.2.2.2.2.2.2.1)] rfl rfl) rfl (ova_merge (l := [((o + 1), a_tape), ((o + 2), rr1.2.2.2.2.2.2.2.2.2.2.2.2), ((o + 3), w3_a_read)]) hN_A [0, 2] [((o + 1), a_tape), ((o + 3), rr24.2.2.2.2.2.2.2.2.2.2.2.1)] rfl rfl) (ova_merge (l := [((o + 6), b_name), ((o + 7), w3_b_readName)]) hN_B [1] [((o + 7), rr24.2.2.2.2.2.2.2.2.2.2.2.2)] rfl rfl) rfl
    refine lv_if_ne (tgt := 42) hx hb dX14_yard_32 (by decide) (fun c25 => ?_) (fun c25 => ?_)
    · have hf := ite_f c25 hf
      obtain ⟨v26, ev26, hf⟩ := lt_some hf
      refine lv_iinc (k := 1) (v := v26) (lv' := [(1, .int v26), (0, .ref o)]) hx hb dX14_yard_42 hl rfl (by rw [ev26]; rfl) (by decide) rfl (fun ls hl => ?_)
      refine lv_goto (tgt := 21) hx hb dX14_yard_45 (by decide) ?_
      obtain rfl := some_i hf
      exact hk3 _ _ _ hR hS (lv_sub hl [1, 0] rfl)
    · have hf := ite_t c25 hf
      obtain rfl := some_i hf
      replace hk3 : _ = rl3 := hk3
      subst hk3
      exact hx3_1 (rr24.2.1, rr24.2.2.1, rr24.2.2.2.1, rr24.2.2.2.2.1, rr24.2.2.2.2.2.1, rr24.2.2.2.2.2.2.1, rr24.2.2.2.2.2.2.2.1, rr24.2.2.2.2.2.2.2.2.1, rr24.2.2.2.2.2.2.2.2.2.1, rr24.2.2.2.2.2.2.2.2.2.2.1, rr24.2.2.2.2.2.2.2.2.2.2.2.1, rr24.2.2.2.2.2.2.2.2.2.2.2.2) (el_r hfo3) _ _ _ hR hS (lv_sub hl [0] rfl)
noncomputable def f14_rowTick_e4_0 (x4_0 : Int32 × Int32 × Int32 × Int32 × Int32 × Int32 × Int32 × (Nat → Int32) × (Nat → Int32) × (Nat → Int32) × (Nat → Int32) × (Nat → Int32) × (Nat → Int32) × (Nat → Int32)) : Option (Int32 × Int32 × Int32 × Int32 × Int32 × Int32 × Int32 × (Nat → Int32) × (Nat → Int32) × (Nat → Int32) × (Nat → Int32) × (Nat → Int32) × (Nat → Int32) × (Nat → Int32)) :=
  some x4_0

noncomputable def f14_rowTick_j174 (w4_1 : Int32) (j174_a_most : Nat → Int32) : Option ((Int32 × (Nat → Int32)) ⊕ (Int32 × Int32 × Int32 × Int32 × Int32 × Int32 × Int32 × (Nat → Int32) × (Nat → Int32) × (Nat → Int32) × (Nat → Int32) × (Nat → Int32) × (Nat → Int32) × (Nat → Int32))) :=
  lt (w4_1 + (1 : Int32)) fun v10 =>
  some (.inl (v10, j174_a_most))

noncomputable def f14_rowTick_s4 (i_teamMany : Int32) (x3_0 : Int32 × Int32 × Int32 × Int32 × Int32 × Int32 × Int32 × (Nat → Int32) × (Nat → Int32) × (Nat → Int32) × (Nat → Int32) × (Nat → Int32) × (Nat → Int32)) (w4_1 : Int32) (w4_a_most : Nat → Int32) : Option ((Int32 × (Nat → Int32)) ⊕ (Int32 × Int32 × Int32 × Int32 × Int32 × Int32 × Int32 × (Nat → Int32) × (Nat → Int32) × (Nat → Int32) × (Nat → Int32) × (Nat → Int32) × (Nat → Int32) × (Nat → Int32))) :=
  if i_teamMany ≤ w4_1 then
    some (.inr (x3_0.1, x3_0.2.1, x3_0.2.2.1, x3_0.2.2.2.1, x3_0.2.2.2.2.1, x3_0.2.2.2.2.2.1, x3_0.2.2.2.2.2.2.1, x3_0.2.2.2.2.2.2.2.1, x3_0.2.2.2.2.2.2.2.2.1, x3_0.2.2.2.2.2.2.2.2.2.1, x3_0.2.2.2.2.2.2.2.2.2.2.1, x3_0.2.2.2.2.2.2.2.2.2.2.2.1, w4_a_most, x3_0.2.2.2.2.2.2.2.2.2.2.2.2))
  else
    gd (inb w4_1 12) <|
    lt (x3_0.2.2.2.2.2.2.2.2.2.2.2.1 w4_1.toNatClampNeg) fun v7 =>
    gd (inb w4_1 12) <|
    lt (w4_a_most w4_1.toNatClampNeg) fun v9 =>
    if v7 ≤ v9 then
      f14_rowTick_j174 w4_1 w4_a_most
    else
      gd (inb w4_1 12) <|
      lt (x3_0.2.2.2.2.2.2.2.2.2.2.2.1 w4_1.toNatClampNeg) fun v13 =>
      gd (inb w4_1 12) <|
      lt (upd w4_a_most w4_1.toNatClampNeg v13) fun u15 =>
      f14_rowTick_j174 w4_1 u15

noncomputable def f14_rowTick_e3_0 (i_teamMany : Int32) (a_most : Nat → Int32) (x3_0 : Int32 × Int32 × Int32 × Int32 × Int32 × Int32 × Int32 × (Nat → Int32) × (Nat → Int32) × (Nat → Int32) × (Nat → Int32) × (Nat → Int32) × (Nat → Int32)) : Option (Int32 × Int32 × Int32 × Int32 × Int32 × Int32 × Int32 × (Nat → Int32) × (Nat → Int32) × (Nat → Int32) × (Nat → Int32) × (Nat → Int32) × (Nat → Int32) × (Nat → Int32)) :=
  (whl (fun (s4 : Int32 × (Nat → Int32)) => f14_rowTick_s4 i_teamMany x3_0 s4.1 s4.2) FU ((1 : Int32), a_most)).bind fun rl4 =>
  f14_rowTick_e4_0 rl4

noncomputable def f14_rowTick_j131 (w3_1 : Int32) (j117_i_away : Int32) (j117_i_litresThrown : Int32) (j117_i_spilt : Int32) (j117_i_pailsThrown : Int32) (j117_a_done : Nat → Int32) (j117_a_comes : Nat → Int32) (j131_i_well : Int32) (j131_i_empty : Int32) (j131_i_drawn : Int32) (j131_a_rest : Nat → Int32) (j131_a_load : Nat → Int32) (j131_a_queue : Nat → Int32) (j131_a_waits : Nat → Int32) : Option ((Int32 × Int32 × Int32 × Int32 × Int32 × Int32 × Int32 × Int32 × (Nat → Int32) × (Nat → Int32) × (Nat → Int32) × (Nat → Int32) × (Nat → Int32) × (Nat → Int32)) ⊕ (Int32 × Int32 × Int32 × Int32 × Int32 × Int32 × Int32 × (Nat → Int32) × (Nat → Int32) × (Nat → Int32) × (Nat → Int32) × (Nat → Int32) × (Nat → Int32))) :=
  lt (w3_1 + (-1 : Int32)) fun v21 =>
  some (.inl (v21, j131_i_well, j131_i_empty, j117_i_away, j117_i_litresThrown, j117_i_spilt, j117_i_pailsThrown, j131_i_drawn, j131_a_rest, j131_a_load, j117_a_done, j131_a_queue, j131_a_waits, j117_a_comes))

noncomputable def f14_rowTick_j117 (i_teamMany : Int32) (a_now : Nat → Int32) (a_team : Nat → Int32) (w3_1 : Int32) (w3_i_well : Int32) (w3_i_empty : Int32) (w3_i_drawn : Int32) (j117_i_away : Int32) (j117_i_litresThrown : Int32) (j117_i_spilt : Int32) (j117_i_pailsThrown : Int32) (j117_a_rest : Nat → Int32) (j117_a_load : Nat → Int32) (j117_a_done : Nat → Int32) (j117_a_queue : Nat → Int32) (j117_a_waits : Nat → Int32) (j117_a_comes : Nat → Int32) : Option ((Int32 × Int32 × Int32 × Int32 × Int32 × Int32 × Int32 × Int32 × (Nat → Int32) × (Nat → Int32) × (Nat → Int32) × (Nat → Int32) × (Nat → Int32) × (Nat → Int32)) ⊕ (Int32 × Int32 × Int32 × Int32 × Int32 × Int32 × Int32 × (Nat → Int32) × (Nat → Int32) × (Nat → Int32) × (Nat → Int32) × (Nat → Int32) × (Nat → Int32))) :=
  gd (inb w3_1 12) <|
  lt (j117_a_rest w3_1.toNatClampNeg) fun v20 =>
  if v20 = 0 then
    (f14_takesUp w3_1 i_teamMany w3_i_well w3_i_empty w3_i_drawn a_now a_team j117_a_rest j117_a_load j117_a_done j117_a_queue j117_a_waits).bind fun rr23 =>
    f14_rowTick_j131 w3_1 j117_i_away j117_i_litresThrown j117_i_spilt j117_i_pailsThrown j117_a_done j117_a_comes rr23.1 rr23.2.1 rr23.2.2.1 rr23.2.2.2.1 rr23.2.2.2.2.1 rr23.2.2.2.2.2.1 rr23.2.2.2.2.2.2
  else
    f14_rowTick_j131 w3_1 j117_i_away j117_i_litresThrown j117_i_spilt j117_i_pailsThrown j117_a_done j117_a_comes w3_i_well w3_i_empty w3_i_drawn j117_a_rest j117_a_load j117_a_queue j117_a_waits

noncomputable def f14_rowTick_s3 (i_teamMany : Int32) (i_tick : Int32) (a_now : Nat → Int32) (a_team : Nat → Int32) (w3_1 : Int32) (w3_i_well : Int32) (w3_i_empty : Int32) (w3_i_away : Int32) (w3_i_litresThrown : Int32) (w3_i_spilt : Int32) (w3_i_pailsThrown : Int32) (w3_i_drawn : Int32) (w3_a_rest : Nat → Int32) (w3_a_load : Nat → Int32) (w3_a_done : Nat → Int32) (w3_a_queue : Nat → Int32) (w3_a_waits : Nat → Int32) (w3_a_comes : Nat → Int32) : Option ((Int32 × Int32 × Int32 × Int32 × Int32 × Int32 × Int32 × Int32 × (Nat → Int32) × (Nat → Int32) × (Nat → Int32) × (Nat → Int32) × (Nat → Int32) × (Nat → Int32)) ⊕ (Int32 × Int32 × Int32 × Int32 × Int32 × Int32 × Int32 × (Nat → Int32) × (Nat → Int32) × (Nat → Int32) × (Nat → Int32) × (Nat → Int32) × (Nat → Int32))) :=
  if w3_1 < 0 then
    some (.inr (w3_i_well, w3_i_empty, w3_i_away, w3_i_litresThrown, w3_i_spilt, w3_i_pailsThrown, w3_i_drawn, w3_a_rest, w3_a_load, w3_a_done, w3_a_queue, w3_a_waits, w3_a_comes))
  else
    gd (inb w3_1 12) <|
    lt (w3_a_rest w3_1.toNatClampNeg) fun v18 =>
    if v18 ≤ 0 then
      f14_rowTick_j117 i_teamMany a_now a_team w3_1 w3_i_well w3_i_empty w3_i_drawn w3_i_away w3_i_litresThrown w3_i_spilt w3_i_pailsThrown w3_a_rest w3_a_load w3_a_done w3_a_queue w3_a_waits w3_a_comes
    else
      gd (inb w3_1 12) <|
      lt (w3_a_rest w3_1.toNatClampNeg) fun v26 =>
      lt (v26 - (1 : Int32)) fun v27 =>
      gd (inb w3_1 12) <|
      lt (upd w3_a_rest w3_1.toNatClampNeg v27) fun u29 =>
      gd (inb w3_1 12) <|
      lt (u29 w3_1.toNatClampNeg) fun v31 =>
      if v31 = 0 then
        (f14_finishes w3_1 i_teamMany i_tick w3_i_away w3_i_litresThrown w3_i_spilt w3_i_pailsThrown a_now w3_a_load w3_a_done w3_a_queue w3_a_waits w3_a_comes).bind fun rr33 =>
        f14_rowTick_j117 i_teamMany a_now a_team w3_1 w3_i_well w3_i_empty w3_i_drawn rr33.1 rr33.2.1 rr33.2.2.1 rr33.2.2.2.1 u29 rr33.2.2.2.2.1 rr33.2.2.2.2.2.1 rr33.2.2.2.2.2.2.1 rr33.2.2.2.2.2.2.2.1 rr33.2.2.2.2.2.2.2.2
      else
        f14_rowTick_j117 i_teamMany a_now a_team w3_1 w3_i_well w3_i_empty w3_i_drawn w3_i_away w3_i_litresThrown w3_i_spilt w3_i_pailsThrown u29 w3_a_load w3_a_done w3_a_queue w3_a_waits w3_a_comes

noncomputable def f14_rowTick_e1_0 (i_teamMany : Int32) (i_well : Int32) (i_tick : Int32) (i_litresThrown : Int32) (i_spilt : Int32) (i_pailsThrown : Int32) (i_drawn : Int32) (a_now : Nat → Int32) (a_team : Nat → Int32) (a_rest : Nat → Int32) (a_load : Nat → Int32) (a_done : Nat → Int32) (a_queue : Nat → Int32) (a_waits : Nat → Int32) (a_most : Nat → Int32) (x1_0 : Int32 × Int32 × (Nat → Int32)) : Option (Int32 × Int32 × Int32 × Int32 × Int32 × Int32 × Int32 × (Nat → Int32) × (Nat → Int32) × (Nat → Int32) × (Nat → Int32) × (Nat → Int32) × (Nat → Int32) × (Nat → Int32)) :=
  lt (i_teamMany - (1 : Int32)) fun v2 =>
  (whl (fun (s3 : Int32 × Int32 × Int32 × Int32 × Int32 × Int32 × Int32 × Int32 × (Nat → Int32) × (Nat → Int32) × (Nat → Int32) × (Nat → Int32) × (Nat → Int32) × (Nat → Int32)) => f14_rowTick_s3 i_teamMany i_tick a_now a_team s3.1 s3.2.1 s3.2.2.1 s3.2.2.2.1 s3.2.2.2.2.1 s3.2.2.2.2.2.1 s3.2.2.2.2.2.2.1 s3.2.2.2.2.2.2.2.1 s3.2.2.2.2.2.2.2.2.1 s3.2.2.2.2.2.2.2.2.2.1 s3.2.2.2.2.2.2.2.2.2.2.1 s3.2.2.2.2.2.2.2.2.2.2.2.1 s3.2.2.2.2.2.2.2.2.2.2.2.2.1 s3.2.2.2.2.2.2.2.2.2.2.2.2.2) FU (v2, i_well, x1_0.1, x1_0.2.1, i_litresThrown, i_spilt, i_pailsThrown, i_drawn, a_rest, a_load, a_done, a_queue, a_waits, x1_0.2.2)).bind fun rl3 =>
  f14_rowTick_e3_0 i_teamMany a_most rl3

noncomputable def f14_rowTick_e40_0 (v38 : Int32) (v39 : Int32) (x40_0 : (Nat → Int32)) : Option ((Int32 × Int32 × (Nat → Int32)) ⊕ (Int32 × Int32 × (Nat → Int32))) :=
  some (.inl (v38, v39, x40_0))

noncomputable def f14_rowTick_s40 (v39 : Int32) (w40_1 : Int32) (w40_a_comes : Nat → Int32) : Option ((Int32 × (Nat → Int32)) ⊕ ((Nat → Int32))) :=
  if v39 ≤ w40_1 then
    some (.inr w40_a_comes)
  else
    lt (w40_1 + (1 : Int32)) fun v42 =>
    gd (inb v42 30) <|
    lt (w40_a_comes v42.toNatClampNeg) fun v44 =>
    gd (inb w40_1 30) <|
    lt (upd w40_a_comes w40_1.toNatClampNeg v44) fun u46 =>
    lt (w40_1 + (1 : Int32)) fun v47 =>
    some (.inl (v47, u46))

noncomputable def f14_rowTick_s1 (i_tick : Int32) (w1_i_empty : Int32) (w1_i_away : Int32) (w1_a_comes : Nat → Int32) : Option ((Int32 × Int32 × (Nat → Int32)) ⊕ (Int32 × Int32 × (Nat → Int32))) :=
  if w1_i_away ≤ 0 then
    some (.inr (w1_i_empty, w1_i_away, w1_a_comes))
  else
    gd (inb (0 : Int32) 30) <|
    lt (w1_a_comes (0 : Int32).toNatClampNeg) fun v36 =>
    if i_tick < v36 then
      some (.inr (w1_i_empty, w1_i_away, w1_a_comes))
    else
      lt (w1_i_empty + (1 : Int32)) fun v38 =>
      lt (w1_i_away - (1 : Int32)) fun v39 =>
      (whl (fun (s40 : Int32 × (Nat → Int32)) => f14_rowTick_s40 v39 s40.1 s40.2) FU ((0 : Int32), w1_a_comes)).bind fun rl40 =>
      f14_rowTick_e40_0 v38 v39 rl40

noncomputable def f14_rowTick (i_teamMany : Int32) (i_well : Int32) (i_tick : Int32) (i_empty : Int32) (i_away : Int32) (i_litresThrown : Int32) (i_spilt : Int32) (i_pailsThrown : Int32) (i_drawn : Int32) (a_now : Nat → Int32) (a_team : Nat → Int32) (a_rest : Nat → Int32) (a_load : Nat → Int32) (a_done : Nat → Int32) (a_queue : Nat → Int32) (a_waits : Nat → Int32) (a_most : Nat → Int32) (a_comes : Nat → Int32) : Option (Int32 × Int32 × Int32 × Int32 × Int32 × Int32 × Int32 × (Nat → Int32) × (Nat → Int32) × (Nat → Int32) × (Nat → Int32) × (Nat → Int32) × (Nat → Int32) × (Nat → Int32)) :=
  (whl (fun (s1 : Int32 × Int32 × (Nat → Int32)) => f14_rowTick_s1 i_tick s1.1 s1.2.1 s1.2.2) FU (i_empty, i_away, a_comes)).bind fun rl1 =>
  f14_rowTick_e1_0 i_teamMany i_well i_tick i_litresThrown i_spilt i_pailsThrown i_drawn a_now a_team a_rest a_load a_done a_queue a_waits a_most rl1
set_option maxHeartbeats 4000000 in
theorem m14_rowTick (l : Launch) (G : gG) (K : gK) (I : gI) (J : gJ) (X : gX) (A : gI) (B : gJ) (Q : gX) (o : Nat) (shM : Sh K X o 11 rows11)  (i_teamMany : Int32) (i_well : Int32) (i_tick : Int32) (i_empty : Int32) (i_away : Int32) (i_litresThrown : Int32) (i_spilt : Int32) (i_pailsThrown : Int32) (i_drawn : Int32) (a_now : Nat → Int32) (a_team : Nat → Int32) (a_rest : Nat → Int32) (a_load : Nat → Int32) (a_done : Nat → Int32) (a_queue : Nat → Int32) (a_waits : Nat → Int32) (a_most : Nat → Int32) (a_comes : Nat → Int32) (e_i_teamMany : I 1133 o = i_teamMany) (e_i_well : I 1135 o = i_well) (e_i_tick : I 1136 o = i_tick) (e_i_empty : I 1137 o = i_empty) (e_i_away : I 1138 o = i_away) (e_i_litresThrown : I 1139 o = i_litresThrown) (e_i_spilt : I 1140 o = i_spilt) (e_i_pailsThrown : I 1141 o = i_pailsThrown) (e_i_drawn : I 1142 o = i_drawn) (e_a_now : A (o + 2) = a_now) (e_a_team : A (o + 10) = a_team) (e_a_rest : A (o + 11) = a_rest) (e_a_load : A (o + 12) = a_load) (e_a_done : A (o + 13) = a_done) (e_a_queue : A (o + 14) = a_queue) (e_a_waits : A (o + 15) = a_waits) (e_a_most : A (o + 16) = a_most) (e_a_comes : A (o + 17) = a_comes) (out : Int32 × Int32 × Int32 × Int32 × Int32 × Int32 × Int32 × (Nat → Int32) × (Nat → Int32) × (Nat → Int32) × (Nat → Int32) × (Nat → Int32) × (Nat → Int32) × (Nat → Int32)) (hf : f14_rowTick i_teamMany i_well i_tick i_empty i_away i_litresThrown i_spilt i_pailsThrown i_drawn a_now a_team a_rest a_load a_done a_queue a_waits a_most a_comes = some out) : GMet l yX14_rowTick cX14_rowTick 2 none (4) (87) G [.ref o] K I J X A B Q none K (ov I [(1135, o, out.1), (1137, o, out.2.1), (1138, o, out.2.2.1), (1139, o, out.2.2.2.1), (1140, o, out.2.2.2.2.1), (1141, o, out.2.2.2.2.2.1), (1142, o, out.2.2.2.2.2.2.1)]) J X (ova A [((o + 2), a_now), ((o + 10), a_team), ((o + 11), out.2.2.2.2.2.2.2.1), ((o + 12), out.2.2.2.2.2.2.2.2.1), ((o + 13), out.2.2.2.2.2.2.2.2.2.1), ((o + 14), out.2.2.2.2.2.2.2.2.2.2.1), ((o + 15), out.2.2.2.2.2.2.2.2.2.2.2.1), ((o + 16), out.2.2.2.2.2.2.2.2.2.2.2.2.1), ((o + 17), out.2.2.2.2.2.2.2.2.2.2.2.2.2)]) B Q 0 0 := by
  refine GMet.of (y := yX14_rowTick) rfl (Nat.le_of_ble_eq_true rfl) rfl ?_
  intro p e s m below meth c ls hx hb hr hml hlocks hts hown hname hG hR hl
  have hown : s.vm.findClass RX14 = some m.cls := hown
  have k_a_now : K (o + 2) = some (.inr (0, 800)) := (shM.2 1 _ rfl).1
  have k_a_team : K (o + 10) = some (.inr (0, 12)) := (shM.2 9 _ rfl).1
  have k_a_rest : K (o + 11) = some (.inr (0, 12)) := (shM.2 10 _ rfl).1
  have k_a_load : K (o + 12) = some (.inr (0, 12)) := (shM.2 11 _ rfl).1
  have k_a_done : K (o + 13) = some (.inr (0, 12)) := (shM.2 12 _ rfl).1
  have k_a_queue : K (o + 14) = some (.inr (0, 360)) := (shM.2 13 _ rfl).1
  have k_a_waits : K (o + 15) = some (.inr (0, 12)) := (shM.2 14 _ rfl).1
  have k_a_most : K (o + 16) = some (.inr (0, 12)) := (shM.2 15 _ rfl).1
  have k_a_comes : K (o + 17) = some (.inr (0, 30)) := (shM.2 16 _ rfl).1
  have hN_A : nda [(o + 2), (o + 10), (o + 11), (o + 12), (o + 13), (o + 14), (o + 15), (o + 16), (o + 17)] := nd_off o [2, 10, 11, 12, 13, 14, 15, 16, 17] rfl
  have hR : RS G K (ov I [(1135, o, i_well), (1137, o, i_empty), (1138, o, i_away), (1139, o, i_litresThrown), (1140, o, i_spilt), (1141, o, i_pailsThrown), (1142, o, i_drawn)]) J X (ova A [((o + 2), a_now), ((o + 10), a_team), ((o + 11), a_rest), ((o + 12), a_load), ((o + 13), a_done), ((o + 14), a_queue), ((o + 15), a_waits), ((o + 16), a_most), ((o + 17), a_comes)]) B Q s.heap := hR.to (Eq.symm (ov_sc e_i_well (ov_sc e_i_empty (ov_sc e_i_away (ov_sc e_i_litresThrown (ov_sc e_i_spilt (ov_sc e_i_pailsThrown (ov_sc e_i_drawn rfl)))))))) rfl rfl (Eq.symm (ova_sc e_a_now (ova_sc e_a_team (ova_sc e_a_rest (ova_sc e_a_load (ova_sc e_a_done (ova_sc e_a_queue (ova_sc e_a_waits (ova_sc e_a_most (ova_sc e_a_comes rfl)))))))))) rfl rfl
  have hS : va_S (gA G) s.heap s.heap [] := va_S.rf
  have hend : ∀ (pc : Nat) (H : Heap) (locs : List Loc) (ls : Array Slot), decode cX14_rowTick pc = .ok (.return_, 1) → RS G K (ov I [(1135, o, out.1), (1137, o, out.2.1), (1138, o, out.2.2.1), (1139, o, out.2.2.2.1), (1140, o, out.2.2.2.2.1), (1141, o, out.2.2.2.2.2.1), (1142, o, out.2.2.2.2.2.2.1)]) J X (ova A [((o + 2), a_now), ((o + 10), a_team), ((o + 11), out.2.2.2.2.2.2.2.1), ((o + 12), out.2.2.2.2.2.2.2.2.1), ((o + 13), out.2.2.2.2.2.2.2.2.2.1), ((o + 14), out.2.2.2.2.2.2.2.2.2.2.1), ((o + 15), out.2.2.2.2.2.2.2.2.2.2.2.1), ((o + 16), out.2.2.2.2.2.2.2.2.2.2.2.2.1), ((o + 17), out.2.2.2.2.2.2.2.2.2.2.2.2.2)]) B Q H → va_S (gA G) s.heap H locs → W p l e ({ frames := 4, cells := 0, slots := 0, locals := 87 } : Room) s m ([.ref o] : List Value).toArray below meth c H locs 0 0 (MQ below (gQ G none K (ov I [(1135, o, out.1), (1137, o, out.2.1), (1138, o, out.2.2.1), (1139, o, out.2.2.2.1), (1140, o, out.2.2.2.2.1), (1141, o, out.2.2.2.2.2.1), (1142, o, out.2.2.2.2.2.2.1)]) J X (ova A [((o + 2), a_now), ((o + 10), a_team), ((o + 11), out.2.2.2.2.2.2.2.1), ((o + 12), out.2.2.2.2.2.2.2.2.1), ((o + 13), out.2.2.2.2.2.2.2.2.2.1), ((o + 14), out.2.2.2.2.2.2.2.2.2.2.1), ((o + 15), out.2.2.2.2.2.2.2.2.2.2.2.1), ((o + 16), out.2.2.2.2.2.2.2.2.2.2.2.2.1), ((o + 17), out.2.2.2.2.2.2.2.2.2.2.2.2.2)]) B Q) ([.ref o] : List Value).toArray s 0 0 (gA G)) (F0 m pc ls []) := fun pc H locs ls hd hR hS => g_vret hx hb hr hlocks hG hR hS rfl hd
  generalize MQ below (gQ G none K (ov I [(1135, o, out.1), (1137, o, out.2.1), (1138, o, out.2.2.1), (1139, o, out.2.2.2.1), (1140, o, out.2.2.2.2.1), (1141, o, out.2.2.2.2.2.1), (1142, o, out.2.2.2.2.2.2.1)]) J X (ova A [((o + 2), a_now), ((o + 10), a_team), ((o + 11), out.2.2.2.2.2.2.2.1), ((o + 12), out.2.2.2.2.2.2.2.2.1), ((o + 13), out.2.2.2.2.2.2.2.2.2.1), ((o + 14), out.2.2.2.2.2.2.2.2.2.2.1), ((o + 15), out.2.2.2.2.2.2.2.2.2.2.2.1), ((o + 16), out.2.2.2.2.2.2.2.2.2.2.2.2.1), ((o + 17), out.2.2.2.2.2.2.2.2.2.2.2.2.2)]) B Q) ([.ref o] : List Value).toArray s 0 0 (gA G) = Z at hend ⊢
  generalize ([.ref o] : List Value).toArray = args at hts hend ⊢
  unfold f14_rowTick at hf
  obtain ⟨rl1, hw1, hfo1⟩ := bind_s hf
  have hx1_0 : ∀ (x1_0 : Int32 × Int32 × (Nat → Int32)), f14_rowTick_e1_0 i_teamMany i_well i_tick i_litresThrown i_spilt i_pailsThrown i_drawn a_now a_team a_rest a_load a_done a_queue a_waits a_most x1_0 = some out → ∀ (H : Heap) (locs : List Loc) (ls : Array Slot), RS G K (ov I [(1135, o, i_well), (1137, o, x1_0.1), (1138, o, x1_0.2.1), (1139, o, i_litresThrown), (1140, o, i_spilt), (1141, o, i_pailsThrown), (1142, o, i_drawn)]) J X (ova A [((o + 2), a_now), ((o + 10), a_team), ((o + 11), a_rest), ((o + 12), a_load), ((o + 13), a_done), ((o + 14), a_queue), ((o + 15), a_waits), ((o + 16), a_most), ((o + 17), x1_0.2.2)]) B Q H → va_S (gA G) s.heap H locs → lv_has ls 2 [(0, .ref o)] → W p l e ({ frames := 4, cells := 0, slots := 0, locals := 87 } : Room) s m args below meth c H locs 0 0 Z (F0 m 73 ls []) := by
    intro x1_0 hf H locs ls hR hS hl
    unfold f14_rowTick_e1_0 at hf
    refine lv_aload_n hx hb dX14_rowTick_73 rfl (lv_at hl 0 rfl) ?_
    refine n_geti (v := i_teamMany) hx hb hts hown hG hR gFi_X14_304_11 shM.1 ((congrFun (ov_no rfl) _).trans e_i_teamMany) dX14_rowTick_74 ?_
    refine lv_iconst (v := 1) hx hb dX14_rowTick_77 li_1 ?_
    obtain ⟨v2, ev2, hf⟩ := lt_some hf
    refine n_isub hx hb ev2 dX14_rowTick_78 ?_
    refine lv_istore_n (lv' := [(1, .int v2), (0, .ref o)]) hx hb dX14_rowTick_79 rfl hl (by decide) rfl (fun ls hl => ?_)
    obtain ⟨rl3, hw3, hfo3⟩ := bind_s hf
    have hx3_0 : ∀ (x3_0 : Int32 × Int32 × Int32 × Int32 × Int32 × Int32 × Int32 × (Nat → Int32) × (Nat → Int32) × (Nat → Int32) × (Nat → Int32) × (Nat → Int32) × (Nat → Int32)), f14_rowTick_e3_0 i_teamMany a_most x3_0 = some out → ∀ (H : Heap) (locs : List Loc) (ls : Array Slot), RS G K (ov I [(1135, o, x3_0.1), (1137, o, x3_0.2.1), (1138, o, x3_0.2.2.1), (1139, o, x3_0.2.2.2.1), (1140, o, x3_0.2.2.2.2.1), (1141, o, x3_0.2.2.2.2.2.1), (1142, o, x3_0.2.2.2.2.2.2.1)]) J X (ova A [((o + 2), a_now), ((o + 10), a_team), ((o + 11), x3_0.2.2.2.2.2.2.2.1), ((o + 12), x3_0.2.2.2.2.2.2.2.2.1), ((o + 13), x3_0.2.2.2.2.2.2.2.2.2.1), ((o + 14), x3_0.2.2.2.2.2.2.2.2.2.2.1), ((o + 15), x3_0.2.2.2.2.2.2.2.2.2.2.2.1), ((o + 16), a_most), ((o + 17), x3_0.2.2.2.2.2.2.2.2.2.2.2.2)]) B Q H → va_S (gA G) s.heap H locs → lv_has ls 2 [(0, .ref o)] → W p l e ({ frames := 4, cells := 0, slots := 0, locals := 87 } : Room) s m args below meth c H locs 0 0 Z (F0 m 137 ls []) := by
      intro x3_0 hf H locs ls hR hS hl
      unfold f14_rowTick_e3_0 at hf
      refine lv_iconst (v := 1) hx hb dX14_rowTick_137 li_1 ?_
      refine lv_istore_n (lv' := [(1, .int (1 : Int32)), (0, .ref o)]) hx hb dX14_rowTick_138 rfl hl (by decide) rfl (fun ls hl => ?_)
      obtain ⟨rl4, hw4, hfo4⟩ := bind_s hf
      have hx4_0 : ∀ (x4_0 : Int32 × Int32 × Int32 × Int32 × Int32 × Int32 × Int32 × (Nat → Int32) × (Nat → Int32) × (Nat → Int32) × (Nat → Int32) × (Nat → Int32) × (Nat → Int32) × (Nat → Int32)), f14_rowTick_e4_0 x4_0 = some out → ∀ (pc : Nat) (H : Heap) (locs : List Loc) (ls : Array Slot), decode cX14_rowTick pc = .ok (.return_, 1) → RS G K (ov I [(1135, o, x4_0.1), (1137, o, x4_0.2.1), (1138, o, x4_0.2.2.1), (1139, o, x4_0.2.2.2.1), (1140, o, x4_0.2.2.2.2.1), (1141, o, x4_0.2.2.2.2.2.1), (1142, o, x4_0.2.2.2.2.2.2.1)]) J X (ova A [((o + 2), a_now), ((o + 10), a_team), ((o + 11), x4_0.2.2.2.2.2.2.2.1), ((o + 12), x4_0.2.2.2.2.2.2.2.2.1), ((o + 13), x4_0.2.2.2.2.2.2.2.2.2.1), ((o + 14), x4_0.2.2.2.2.2.2.2.2.2.2.1), ((o + 15), x4_0.2.2.2.2.2.2.2.2.2.2.2.1), ((o + 16), x4_0.2.2.2.2.2.2.2.2.2.2.2.2.1), ((o + 17), x4_0.2.2.2.2.2.2.2.2.2.2.2.2.2)]) B Q H → va_S (gA G) s.heap H locs → W p l e ({ frames := 4, cells := 0, slots := 0, locals := 87 } : Room) s m args below meth c H locs 0 0 Z (F0 m pc ls []) := by
        intro x4_0 hf pc H locs ls hd hR hS
        unfold f14_rowTick_e4_0 at hf
        obtain rfl := some_i hf
        exact hend _ _ _ _ hd hR hS
      refine whl_walk (P := fun (s4 : Int32 × (Nat → Int32)) => ∀ (H : Heap) (locs : List Loc) (ls : Array Slot), RS G K (ov I [(1135, o, x3_0.1), (1137, o, x3_0.2.1), (1138, o, x3_0.2.2.1), (1139, o, x3_0.2.2.2.1), (1140, o, x3_0.2.2.2.2.1), (1141, o, x3_0.2.2.2.2.2.1), (1142, o, x3_0.2.2.2.2.2.2.1)]) J X (ova A [((o + 2), a_now), ((o + 10), a_team), ((o + 11), x3_0.2.2.2.2.2.2.2.1), ((o + 12), x3_0.2.2.2.2.2.2.2.2.1), ((o + 13), x3_0.2.2.2.2.2.2.2.2.2.1), ((o + 14), x3_0.2.2.2.2.2.2.2.2.2.2.1), ((o + 15), x3_0.2.2.2.2.2.2.2.2.2.2.2.1), ((o + 16), s4.2), ((o + 17), x3_0.2.2.2.2.2.2.2.2.2.2.2.2)]) B Q H → va_S (gA G) s.heap H locs → lv_has ls 2 [(0, .ref o), (1, .int s4.1)] → W p l e ({ frames := 4, cells := 0, slots := 0, locals := 87 } : Room) s m args below meth c H locs 0 0 Z (F0 m 139 ls [])) (r := rl4) ?_ FU _ hw4 _ _ _ hR hS (lv_sub hl [1, 0] rfl)
      clear hR hS hl hf
      intro s4 o4 hf hk4 H locs ls hR hS hl
      obtain ⟨w4_1, w4_a_most⟩ := s4
      have hf : f14_rowTick_s4 i_teamMany x3_0 w4_1 w4_a_most = some o4 := hf
      have hR : RS G K (ov I [(1135, o, x3_0.1), (1137, o, x3_0.2.1), (1138, o, x3_0.2.2.1), (1139, o, x3_0.2.2.2.1), (1140, o, x3_0.2.2.2.2.1), (1141, o, x3_0.2.2.2.2.2.1), (1142, o, x3_0.2.2.2.2.2.2.1)]) J X (ova A [((o + 2), a_now), ((o + 10), a_team), ((o + 11), x3_0.2.2.2.2.2.2.2.1), ((o + 12), x3_0.2.2.2.2.2.2.2.2.1), ((o + 13), x3_0.2.2.2.2.2.2.2.2.2.1), ((o + 14), x3_0.2.2.2.2.2.2.2.2.2.2.1), ((o + 15), x3_0.2.2.2.2.2.2.2.2.2.2.2.1), ((o + 16), w4_a_most), ((o + 17), x3_0.2.2.2.2.2.2.2.2.2.2.2.2)]) B Q H := hR
      have hl : lv_has ls 2 [(0, .ref o), (1, .int w4_1)] := hl
      unfold f14_rowTick_s4 at hf
      refine lv_iload_n hx hb dX14_rowTick_139 rfl (lv_at hl 1 rfl) ?_
      refine lv_aload_n hx hb dX14_rowTick_140 rfl (lv_at hl 0 rfl) ?_
      refine n_geti (v := i_teamMany) hx hb hts hown hG hR gFi_X14_304_11 shM.1 ((congrFun (ov_no rfl) _).trans e_i_teamMany) dX14_rowTick_141 ?_
      refine lv_icmp_ge (tgt := 180) hx hb dX14_rowTick_144 (by decide) (fun c5 => ?_) (fun c5 => ?_)
      · have hf := ite_t c5 hf
        obtain rfl := some_i hf
        replace hk4 : _ = rl4 := hk4
        subst hk4
        exact hx4_0 (x3_0.1, x3_0.2.1, x3_0.2.2.1, x3_0.2.2.2.1, x3_0.2.2.2.2.1, x3_0.2.2.2.2.2.1, x3_0.2.2.2.2.2.2.1, x3_0.2.2.2.2.2.2.2.1, x3_0.2.2.2.2.2.2.2.2.1, x3_0.2.2.2.2.2.2.2.2.2.1, x3_0.2.2.2.2.2.2.2.2.2.2.1, x3_0.2.2.2.2.2.2.2.2.2.2.2.1, w4_a_most, x3_0.2.2.2.2.2.2.2.2.2.2.2.2) hfo4 _ _ _ _ dX14_rowTick_180 hR hS
      · have hf := ite_f c5 hf
        refine lv_aload_n hx hb dX14_rowTick_147 rfl (lv_at hl 0 rfl) ?_
        refine g_getr (b := (o + 15)) hx hb hts hown hG hR gFx_X14_54_11 shM.1 ((shM.2 14 _ rfl).2) dX14_rowTick_148 ?_
        refine lv_iload_n hx hb dX14_rowTick_151 rfl (lv_at hl 1 rfl) ?_
        obtain ⟨c6, hf⟩ := gd_some hf
        obtain ⟨v7, ev7, hf⟩ := lt_some hf
        refine n_iald (x := x3_0.2.2.2.2.2.2.2.2.2.2.2.1) hx hb hG hR k_a_waits c6 (ova_get 6 hN_A rfl) ev7 dX14_rowTick_152 ?_
        refine lv_aload_n hx hb dX14_rowTick_153 rfl (lv_at hl 0 rfl) ?_
        refine g_getr (b := (o + 16)) hx hb hts hown hG hR gFx_X14_57_11 shM.1 ((shM.2 15 _ rfl).2) dX14_rowTick_154 ?_
        refine lv_iload_n hx hb dX14_rowTick_157 rfl (lv_at hl 1 rfl) ?_
        obtain ⟨c8, hf⟩ := gd_some hf
        obtain ⟨v9, ev9, hf⟩ := lt_some hf
        refine n_iald (x := w4_a_most) hx hb hG hR k_a_most c8 (ova_get 7 hN_A rfl) ev9 dX14_rowTick_158 ?_
        have hj174 : ∀ (j174_a_most : Nat → Int32), f14_rowTick_j174 w4_1 j174_a_most = some o4 → ∀ (H : Heap) (locs : List Loc) (ls : Array Slot), RS G K (ov I [(1135, o, x3_0.1), (1137, o, x3_0.2.1), (1138, o, x3_0.2.2.1), (1139, o, x3_0.2.2.2.1), (1140, o, x3_0.2.2.2.2.1), (1141, o, x3_0.2.2.2.2.2.1), (1142, o, x3_0.2.2.2.2.2.2.1)]) J X (ova A [((o + 2), a_now), ((o + 10), a_team), ((o + 11), x3_0.2.2.2.2.2.2.2.1), ((o + 12), x3_0.2.2.2.2.2.2.2.2.1), ((o + 13), x3_0.2.2.2.2.2.2.2.2.2.1), ((o + 14), x3_0.2.2.2.2.2.2.2.2.2.2.1), ((o + 15), x3_0.2.2.2.2.2.2.2.2.2.2.2.1), ((o + 16), j174_a_most), ((o + 17), x3_0.2.2.2.2.2.2.2.2.2.2.2.2)]) B Q H → va_S (gA G) s.heap H locs → lv_has ls 2 [(0, .ref o), (1, .int w4_1)] → W p l e ({ frames := 4, cells := 0, slots := 0, locals := 87 } : Room) s m args below meth c H locs 0 0 Z (F0 m 174 ls []) := by
          intro j174_a_most hf H locs ls hR hS hl
          unfold f14_rowTick_j174 at hf
          obtain ⟨v10, ev10, hf⟩ := lt_some hf
          refine lv_iinc (k := 1) (v := v10) (lv' := [(1, .int v10), (0, .ref o)]) hx hb dX14_rowTick_174 hl rfl (by rw [ev10]; rfl) (by decide) rfl (fun ls hl => ?_)
          refine lv_goto (tgt := 139) hx hb dX14_rowTick_177 (by decide) ?_
          obtain rfl := some_i hf
          exact hk4 _ _ _ hR hS (lv_sub hl [1, 0] rfl)
        refine lv_icmp_le (tgt := 174) hx hb dX14_rowTick_159 (by decide) (fun c11 => ?_) (fun c11 => ?_)
        · have hf := ite_t c11 hf
          exact hj174 w4_a_most hf _ _ _ hR hS (lv_sub hl [0, 1] rfl)
        · have hf := ite_f c11 hf
          refine lv_aload_n hx hb dX14_rowTick_162 rfl (lv_at hl 0 rfl) ?_
          refine g_getr (b := (o + 16)) hx hb hts hown hG hR gFx_X14_57_11 shM.1 ((shM.2 15 _ rfl).2) dX14_rowTick_163 ?_
          refine lv_iload_n hx hb dX14_rowTick_166 rfl (lv_at hl 1 rfl) ?_
          refine lv_aload_n hx hb dX14_rowTick_167 rfl (lv_at hl 0 rfl) ?_
          refine g_getr (b := (o + 15)) hx hb hts hown hG hR gFx_X14_54_11 shM.1 ((shM.2 14 _ rfl).2) dX14_rowTick_168 ?_
          refine lv_iload_n hx hb dX14_rowTick_171 rfl (lv_at hl 1 rfl) ?_
          obtain ⟨c12, hf⟩ := gd_some hf
          obtain ⟨v13, ev13, hf⟩ := lt_some hf
          refine n_iald (x := x3_0.2.2.2.2.2.2.2.2.2.2.2.1) hx hb hG hR k_a_waits c12 (ova_get 6 hN_A rfl) ev13 dX14_rowTick_172 ?_
          obtain ⟨c14, hf⟩ := gd_some hf
          obtain ⟨u15, eu15, hf⟩ := lt_some hf
          refine n_iast (la' := [((o + 2), a_now), ((o + 10), a_team), ((o + 11), x3_0.2.2.2.2.2.2.2.1), ((o + 12), x3_0.2.2.2.2.2.2.2.2.1), ((o + 13), x3_0.2.2.2.2.2.2.2.2.2.1), ((o + 14), x3_0.2.2.2.2.2.2.2.2.2.2.1), ((o + 15), x3_0.2.2.2.2.2.2.2.2.2.2.2.1), ((o + 16), u15), ((o + 17), x3_0.2.2.2.2.2.2.2.2.2.2.2.2)]) hx hb hG hR hS k_a_most c14 hN_A 7 rfl eu15 rfl dX14_rowTick_173 (fun H locs hR hS => ?_)
          exact hj174 u15 hf _ _ _ hR hS (lv_sub hl [0, 1] rfl)
    refine whl_walk (P := fun (s3 : Int32 × Int32 × Int32 × Int32 × Int32 × Int32 × Int32 × Int32 × (Nat → Int32) × (Nat → Int32) × (Nat → Int32) × (Nat → Int32) × (Nat → Int32) × (Nat → Int32)) => ∀ (H : Heap) (locs : List Loc) (ls : Array Slot), RS G K (ov I [(1135, o, s3.2.1), (1137, o, s3.2.2.1), (1138, o, s3.2.2.2.1), (1139, o, s3.2.2.2.2.1), (1140, o, s3.2.2.2.2.2.1), (1141, o, s3.2.2.2.2.2.2.1), (1142, o, s3.2.2.2.2.2.2.2.1)]) J X (ova A [((o + 2), a_now), ((o + 10), a_team), ((o + 11), s3.2.2.2.2.2.2.2.2.1), ((o + 12), s3.2.2.2.2.2.2.2.2.2.1), ((o + 13), s3.2.2.2.2.2.2.2.2.2.2.1), ((o + 14), s3.2.2.2.2.2.2.2.2.2.2.2.1), ((o + 15), s3.2.2.2.2.2.2.2.2.2.2.2.2.1), ((o + 16), a_most), ((o + 17), s3.2.2.2.2.2.2.2.2.2.2.2.2.2)]) B Q H → va_S (gA G) s.heap H locs → lv_has ls 2 [(0, .ref o), (1, .int s3.1)] → W p l e ({ frames := 4, cells := 0, slots := 0, locals := 87 } : Room) s m args below meth c H locs 0 0 Z (F0 m 80 ls [])) (r := rl3) ?_ FU _ hw3 _ _ _ hR hS (lv_sub hl [1, 0] rfl)
    clear hR hS hl hf
    intro s3 o3 hf hk3 H locs ls hR hS hl
    obtain ⟨w3_1, w3_i_well, w3_i_empty, w3_i_away, w3_i_litresThrown, w3_i_spilt, w3_i_pailsThrown, w3_i_drawn, w3_a_rest, w3_a_load, w3_a_done, w3_a_queue, w3_a_waits, w3_a_comes⟩ := s3
    have hf : f14_rowTick_s3 i_teamMany i_tick a_now a_team w3_1 w3_i_well w3_i_empty w3_i_away w3_i_litresThrown w3_i_spilt w3_i_pailsThrown w3_i_drawn w3_a_rest w3_a_load w3_a_done w3_a_queue w3_a_waits w3_a_comes = some o3 := hf
    have hR : RS G K (ov I [(1135, o, w3_i_well), (1137, o, w3_i_empty), (1138, o, w3_i_away), (1139, o, w3_i_litresThrown), (1140, o, w3_i_spilt), (1141, o, w3_i_pailsThrown), (1142, o, w3_i_drawn)]) J X (ova A [((o + 2), a_now), ((o + 10), a_team), ((o + 11), w3_a_rest), ((o + 12), w3_a_load), ((o + 13), w3_a_done), ((o + 14), w3_a_queue), ((o + 15), w3_a_waits), ((o + 16), a_most), ((o + 17), w3_a_comes)]) B Q H := hR
    have hl : lv_has ls 2 [(0, .ref o), (1, .int w3_1)] := hl
    unfold f14_rowTick_s3 at hf
    refine lv_iload_n hx hb dX14_rowTick_80 rfl (lv_at hl 1 rfl) ?_
    refine lv_if_lt (tgt := 137) hx hb dX14_rowTick_81 (by decide) (fun c16 => ?_) (fun c16 => ?_)
    · have hf := ite_t c16 hf
      obtain rfl := some_i hf
      replace hk3 : _ = rl3 := hk3
      subst hk3
      exact hx3_0 (w3_i_well, w3_i_empty, w3_i_away, w3_i_litresThrown, w3_i_spilt, w3_i_pailsThrown, w3_i_drawn, w3_a_rest, w3_a_load, w3_a_done, w3_a_queue, w3_a_waits, w3_a_comes) hfo3 _ _ _ hR hS (lv_sub hl [0] rfl)
    · have hf := ite_f c16 hf
      refine lv_aload_n hx hb dX14_rowTick_84 rfl (lv_at hl 0 rfl) ?_
      refine g_getr (b := (o + 11)) hx hb hts hown hG hR gFx_X14_42_11 shM.1 ((shM.2 10 _ rfl).2) dX14_rowTick_85 ?_
      refine lv_iload_n hx hb dX14_rowTick_88 rfl (lv_at hl 1 rfl) ?_
      obtain ⟨c17, hf⟩ := gd_some hf
      obtain ⟨v18, ev18, hf⟩ := lt_some hf
      refine n_iald (x := w3_a_rest) hx hb hG hR k_a_rest c17 (ova_get 2 hN_A rfl) ev18 dX14_rowTick_89 ?_
      have hj117 : ∀ (j117_i_away : Int32) (j117_i_litresThrown : Int32) (j117_i_spilt : Int32) (j117_i_pailsThrown : Int32) (j117_a_rest : Nat → Int32) (j117_a_load : Nat → Int32) (j117_a_done : Nat → Int32) (j117_a_queue : Nat → Int32) (j117_a_waits : Nat → Int32) (j117_a_comes : Nat → Int32), f14_rowTick_j117 i_teamMany a_now a_team w3_1 w3_i_well w3_i_empty w3_i_drawn j117_i_away j117_i_litresThrown j117_i_spilt j117_i_pailsThrown j117_a_rest j117_a_load j117_a_done j117_a_queue j117_a_waits j117_a_comes = some o3 → ∀ (H : Heap) (locs : List Loc) (ls : Array Slot), RS G K (ov I [(1135, o, w3_i_well), (1137, o, w3_i_empty), (1138, o, j117_i_away), (1139, o, j117_i_litresThrown), (1140, o, j117_i_spilt), (1141, o, j117_i_pailsThrown), (1142, o, w3_i_drawn)]) J X (ova A [((o + 2), a_now), ((o + 10), a_team), ((o + 11), j117_a_rest), ((o + 12), j117_a_load), ((o + 13), j117_a_done), ((o + 14), j117_a_queue), ((o + 15), j117_a_waits), ((o + 16), a_most), ((o + 17), j117_a_comes)]) B Q H → va_S (gA G) s.heap H locs → lv_has ls 2 [(0, .ref o), (1, .int w3_1)] → W p l e ({ frames := 4, cells := 0, slots := 0, locals := 87 } : Room) s m args below meth c H locs 0 0 Z (F0 m 117 ls []) := by
        intro j117_i_away j117_i_litresThrown j117_i_spilt j117_i_pailsThrown j117_a_rest j117_a_load j117_a_done j117_a_queue j117_a_waits j117_a_comes hf H locs ls hR hS hl
        unfold f14_rowTick_j117 at hf
        refine lv_aload_n hx hb dX14_rowTick_117 rfl (lv_at hl 0 rfl) ?_
        refine g_getr (b := (o + 11)) hx hb hts hown hG hR gFx_X14_42_11 shM.1 ((shM.2 10 _ rfl).2) dX14_rowTick_118 ?_
        refine lv_iload_n hx hb dX14_rowTick_121 rfl (lv_at hl 1 rfl) ?_
        obtain ⟨c19, hf⟩ := gd_some hf
        obtain ⟨v20, ev20, hf⟩ := lt_some hf
        refine n_iald (x := j117_a_rest) hx hb hG hR k_a_rest c19 (ova_get 2 hN_A rfl) ev20 dX14_rowTick_122 ?_
        have hj131 : ∀ (j131_i_well : Int32) (j131_i_empty : Int32) (j131_i_drawn : Int32) (j131_a_rest : Nat → Int32) (j131_a_load : Nat → Int32) (j131_a_queue : Nat → Int32) (j131_a_waits : Nat → Int32), f14_rowTick_j131 w3_1 j117_i_away j117_i_litresThrown j117_i_spilt j117_i_pailsThrown j117_a_done j117_a_comes j131_i_well j131_i_empty j131_i_drawn j131_a_rest j131_a_load j131_a_queue j131_a_waits = some o3 → ∀ (H : Heap) (locs : List Loc) (ls : Array Slot), RS G K (ov I [(1135, o, j131_i_well), (1137, o, j131_i_empty), (1138, o, j117_i_away), (1139, o, j117_i_litresThrown), (1140, o, j117_i_spilt), (1141, o, j117_i_pailsThrown), (1142, o, j131_i_drawn)]) J X (ova A [((o + 2), a_now), ((o + 10), a_team), ((o + 11), j131_a_rest), ((o + 12), j131_a_load), ((o + 13), j117_a_done), ((o + 14), j131_a_queue), ((o + 15), j131_a_waits), ((o + 16), a_most), ((o + 17), j117_a_comes)]) B Q H → va_S (gA G) s.heap H locs → lv_has ls 2 [(0, .ref o), (1, .int w3_1)] → W p l e ({ frames := 4, cells := 0, slots := 0, locals := 87 } : Room) s m args below meth c H locs 0 0 Z (F0 m 131 ls []) := by
          intro j131_i_well j131_i_empty j131_i_drawn j131_a_rest j131_a_load j131_a_queue j131_a_waits hf H locs ls hR hS hl
          unfold f14_rowTick_j131 at hf
          obtain ⟨v21, ev21, hf⟩ := lt_some hf
          refine lv_iinc (k := 1) (v := v21) (lv' := [(1, .int v21), (0, .ref o)]) hx hb dX14_rowTick_131 hl rfl (by rw [ev21]; rfl) (by decide) rfl (fun ls hl => ?_)
          refine lv_goto (tgt := 80) hx hb dX14_rowTick_134 (by decide) ?_
          obtain rfl := some_i hf
          exact hk3 _ _ _ hR hS (lv_sub hl [1, 0] rfl)
        refine lv_if_ne (tgt := 131) hx hb dX14_rowTick_123 (by decide) (fun c22 => ?_) (fun c22 => ?_)
        · have hf := ite_f c22 hf
          exact hj131 w3_i_well w3_i_empty w3_i_drawn j117_a_rest j117_a_load j117_a_queue j117_a_waits hf _ _ _ hR hS (lv_sub hl [0, 1] rfl)
        · have hf := ite_t c22 hf
          refine lv_aload_n hx hb dX14_rowTick_126 rfl (lv_at hl 0 rfl) ?_
          refine lv_iload_n hx hb dX14_rowTick_127 rfl (lv_at hl 1 rfl) ?_
          obtain ⟨rr23, hrr23, hf⟩ := bind_s hf
          refine g0_cVv (rm := (3, 65)) (As := [.int w3_1]) (rest := []) ⟨hx, hb, hml, hown, hts⟩ hG hR hS (m14_takesUp l G K (ov I [(1135, o, w3_i_well), (1137, o, w3_i_empty), (1138, o, j117_i_away), (1139, o, j117_i_litresThrown), (1140, o, j117_i_spilt), (1141, o, j117_i_pailsThrown), (1142, o, w3_i_drawn)]) J X (ova A [((o + 2), a_now), ((o + 10), a_team), ((o + 11), j117_a_rest), ((o + 12), j117_a_load), ((o + 13), j117_a_done), ((o + 14), j117_a_queue), ((o + 15), j117_a_waits), ((o + 16), a_most), ((o + 17), j117_a_comes)]) B Q o shM w3_1 i_teamMany w3_i_well w3_i_empty w3_i_drawn a_now a_team j117_a_rest j117_a_load j117_a_done j117_a_queue j117_a_waits ((congrFun (ov_no rfl) _).trans e_i_teamMany) (ov_get 0 rfl rfl) (ov_get 1 rfl rfl) (ov_get 6 rfl rfl) (ova_get 0 hN_A rfl) (ova_get 1 hN_A rfl) (ova_get 2 hN_A rfl) (ova_get 3 hN_A rfl) (ova_get 4 hN_A rfl) (ova_get 5 hN_A rfl) (ova_get 6 hN_A rfl) rr23 hrr23) (cwV 1 hts gi_X14_354 rfl rfl rfl hd_X14_takesUp ⟨Nat.le_of_ble_eq_true rfl, Nat.le_of_ble_eq_true rfl⟩) shM.1 rfl rfl hl.1 (Nat.le_of_ble_eq_true rfl) dX14_rowTick_128 ⟨Nat.le_refl _, Nat.le_refl _⟩ rfl (fun H locs hR hS => ?_)
          have hR : RS G K (ov I [(1135, o, rr23.1), (1137, o, rr23.2.1), (1138, o, j117_i_away), (1139, o, j117_i_litresThrown), (1140, o, j117_i_spilt), (1141, o, j117_i_pailsThrown), (1142, o, rr23.2.2.1)]) J X (ova A [((o + 2), a_now), ((o + 10), a_team), ((o + 11), rr23.2.2.2.1), ((o + 12), rr23.2.2.2.2.1), ((o + 13), j117_a_done), ((o + 14), rr23.2.2.2.2.2.1), ((o + 15), rr23.2.2.2.2.2.2), ((o + 16), a_most), ((o + 17), j117_a_comes)]) B Q H := hR.to (ov_merge (l := [(1135, o, w3_i_well), (1137, o, w3_i_empty), (1138, o, j117_i_away), (1139, o, j117_i_litresThrown), (1140, o, j117_i_spilt), (1141, o, j117_i_pailsThrown), (1142, o, w3_i_drawn)]) rfl [0, 1, 6] [(1135, o, rr23.1), (1137, o, rr23.2.1), (1142, o, rr23.2.2.1)] rfl rfl) rfl rfl (ova_merge (l := [((o + 2), a_now), ((o + 10), a_team), ((o + 11), j117_a_rest), ((o + 12), j117_a_load), ((o + 13), j117_a_done), ((o + 14), j117_a_queue), ((o + 15), j117_a_waits), ((o + 16), a_most), ((o + 17), j117_a_comes)]) hN_A [0, 1, 2, 3, 4, 5, 6] [((o + 2), a_now), ((o + 10), a_team), ((o + 11), rr23.2.2.2.1), ((o + 12), rr23.2.2.2.2.1), ((o + 13), j117_a_done), ((o + 14), rr23.2.2.2.2.2.1), ((o + 15), rr23.2.2.2.2.2.2)] rfl rfl) rfl rfl
          exact hj131 rr23.1 rr23.2.1 rr23.2.2.1 rr23.2.2.2.1 rr23.2.2.2.2.1 rr23.2.2.2.2.2.1 rr23.2.2.2.2.2.2 hf _ _ _ hR hS (lv_sub hl [0, 1] rfl)
      refine lv_if_le (tgt := 117) hx hb dX14_rowTick_90 (by decide) (fun c24 => ?_) (fun c24 => ?_)
      · have hf := ite_t c24 hf
        exact hj117 w3_i_away w3_i_litresThrown w3_i_spilt w3_i_pailsThrown w3_a_rest w3_a_load w3_a_done w3_a_queue w3_a_waits w3_a_comes hf _ _ _ hR hS (lv_sub hl [0, 1] rfl)
      · have hf := ite_f c24 hf
        refine lv_aload_n hx hb dX14_rowTick_93 rfl (lv_at hl 0 rfl) ?_
        refine g_getr (b := (o + 11)) hx hb hts hown hG hR gFx_X14_42_11 shM.1 ((shM.2 10 _ rfl).2) dX14_rowTick_94 ?_
        refine lv_iload_n hx hb dX14_rowTick_97 rfl (lv_at hl 1 rfl) ?_
        refine lv_dup2_11 hx hb dX14_rowTick_98 rfl rfl ?_
        obtain ⟨c25, hf⟩ := gd_some hf
        obtain ⟨v26, ev26, hf⟩ := lt_some hf
        refine n_iald (x := w3_a_rest) hx hb hG hR k_a_rest c25 (ova_get 2 hN_A rfl) ev26 dX14_rowTick_99 ?_
        refine lv_iconst (v := 1) hx hb dX14_rowTick_100 li_1 ?_
        obtain ⟨v27, ev27, hf⟩ := lt_some hf
        refine n_isub hx hb ev27 dX14_rowTick_101 ?_
        obtain ⟨c28, hf⟩ := gd_some hf
        obtain ⟨u29, eu29, hf⟩ := lt_some hf
        refine n_iast (la' := [((o + 2), a_now), ((o + 10), a_team), ((o + 11), u29), ((o + 12), w3_a_load), ((o + 13), w3_a_done), ((o + 14), w3_a_queue), ((o + 15), w3_a_waits), ((o + 16), a_most), ((o + 17), w3_a_comes)]) hx hb hG hR hS k_a_rest c28 hN_A 2 rfl eu29 rfl dX14_rowTick_102 (fun H locs hR hS => ?_)
        refine lv_aload_n hx hb dX14_rowTick_103 rfl (lv_at hl 0 rfl) ?_
        refine g_getr (b := (o + 11)) hx hb hts hown hG hR gFx_X14_42_11 shM.1 ((shM.2 10 _ rfl).2) dX14_rowTick_104 ?_
        refine lv_iload_n hx hb dX14_rowTick_107 rfl (lv_at hl 1 rfl) ?_
        obtain ⟨c30, hf⟩ := gd_some hf
        obtain ⟨v31, ev31, hf⟩ := lt_some hf
        refine n_iald (x := u29) hx hb hG hR k_a_rest c30 (ova_get 2 hN_A rfl) ev31 dX14_rowTick_108 ?_
        refine lv_if_ne (tgt := 117) hx hb dX14_rowTick_109 (by decide) (fun c32 => ?_) (fun c32 => ?_)
        · have hf := ite_f c32 hf
          exact hj117 w3_i_away w3_i_litresThrown w3_i_spilt w3_i_pailsThrown u29 w3_a_load w3_a_done w3_a_queue w3_a_waits w3_a_comes hf _ _ _ hR hS (lv_sub hl [0, 1] rfl)
        · have hf := ite_t c32 hf
          refine lv_aload_n hx hb dX14_rowTick_112 rfl (lv_at hl 0 rfl) ?_
          refine lv_iload_n hx hb dX14_rowTick_113 rfl (lv_at hl 1 rfl) ?_
          obtain ⟨rr33, hrr33, hf⟩ := bind_s hf
          refine g0_cVv (rm := (1, 22)) (As := [.int w3_1]) (rest := []) ⟨hx, hb, hml, hown, hts⟩ hG hR hS (m14_finishes l G K (ov I [(1135, o, w3_i_well), (1137, o, w3_i_empty), (1138, o, w3_i_away), (1139, o, w3_i_litresThrown), (1140, o, w3_i_spilt), (1141, o, w3_i_pailsThrown), (1142, o, w3_i_drawn)]) J X (ova A [((o + 2), a_now), ((o + 10), a_team), ((o + 11), u29), ((o + 12), w3_a_load), ((o + 13), w3_a_done), ((o + 14), w3_a_queue), ((o + 15), w3_a_waits), ((o + 16), a_most), ((o + 17), w3_a_comes)]) B Q o shM w3_1 i_teamMany i_tick w3_i_away w3_i_litresThrown w3_i_spilt w3_i_pailsThrown a_now w3_a_load w3_a_done w3_a_queue w3_a_waits w3_a_comes ((congrFun (ov_no rfl) _).trans e_i_teamMany) ((congrFun (ov_no rfl) _).trans e_i_tick) (ov_get 2 rfl rfl) (ov_get 3 rfl rfl) (ov_get 4 rfl rfl) (ov_get 5 rfl rfl) (ova_get 0 hN_A rfl) (ova_get 3 hN_A rfl) (ova_get 4 hN_A rfl) (ova_get 5 hN_A rfl) (ova_get 6 hN_A rfl) (ova_get 8 hN_A rfl) rr33 hrr33) (cwV 1 hts gi_X14_351 rfl rfl rfl hd_X14_finishes ⟨Nat.le_of_ble_eq_true rfl, Nat.le_of_ble_eq_true rfl⟩) shM.1 rfl rfl hl.1 (Nat.le_of_ble_eq_true rfl) dX14_rowTick_114 ⟨Nat.le_refl _, Nat.le_refl _⟩ rfl (fun H locs hR hS => ?_)
          have hR : RS G K (ov I [(1135, o, w3_i_well), (1137, o, w3_i_empty), (1138, o, rr33.1), (1139, o, rr33.2.1), (1140, o, rr33.2.2.1), (1141, o, rr33.2.2.2.1), (1142, o, w3_i_drawn)]) J X (ova A [((o + 2), a_now), ((o + 10), a_team), ((o + 11), u29), ((o + 12), rr33.2.2.2.2.1), ((o + 13), rr33.2.2.2.2.2.1), ((o + 14), rr33.2.2.2.2.2.2.1), ((o + 15), rr33.2.2.2.2.2.2.2.1), ((o + 16), a_most), ((o + 17), rr33.2.2.2.2.2.2.2.2)]) B Q H := hR.to (ov_merge (l := [(1135, o, w3_i_well), (1137, o, w3_i_empty), (1138, o, w3_i_away), (1139, o, w3_i_litresThrown), (1140, o, w3_i_spilt), (1141, o, w3_i_pailsThrown), (1142, o, w3_i_drawn)]) rfl [2, 3, 4, 5] [(1138, o, rr33.1), (1139, o, rr33.2.1), (1140, o, rr33.2.2.1), (1141, o, rr33.2.2.2.1)] rfl rfl) rfl rfl (ova_merge (l := [((o + 2), a_now), ((o + 10), a_team), ((o + 11), u29), ((o + 12), w3_a_load), ((o + 13), w3_a_done), ((o + 14), w3_a_queue), ((o + 15), w3_a_waits), ((o + 16), a_most), ((o + 17), w3_a_comes)]) hN_A [0, 3, 4, 5, 6, 8] [((o + 2), a_now), ((o + 12), rr33.2.2.2.2.1), ((o + 13), rr33.2.2.2.2.2.1), ((o + 14), rr33.2.2.2.2.2.2.1), ((o + 15), rr33.2.2.2.2.2.2.2.1), ((o + 17), rr33.2.2.2.2.2.2.2.2)] rfl rfl) rfl rfl
          exact hj117 rr33.1 rr33.2.1 rr33.2.2.1 rr33.2.2.2.1 u29 rr33.2.2.2.2.1 rr33.2.2.2.2.2.1 rr33.2.2.2.2.2.2.1 rr33.2.2.2.2.2.2.2.1 rr33.2.2.2.2.2.2.2.2 hf _ _ _ hR hS (lv_sub hl [0, 1] rfl)
  refine whl_walk (P := fun (s1 : Int32 × Int32 × (Nat → Int32)) => ∀ (H : Heap) (locs : List Loc) (ls : Array Slot), RS G K (ov I [(1135, o, i_well), (1137, o, s1.1), (1138, o, s1.2.1), (1139, o, i_litresThrown), (1140, o, i_spilt), (1141, o, i_pailsThrown), (1142, o, i_drawn)]) J X (ova A [((o + 2), a_now), ((o + 10), a_team), ((o + 11), a_rest), ((o + 12), a_load), ((o + 13), a_done), ((o + 14), a_queue), ((o + 15), a_waits), ((o + 16), a_most), ((o + 17), s1.2.2)]) B Q H → va_S (gA G) s.heap H locs → lv_has ls 2 [(0, .ref o)] → W p l e ({ frames := 4, cells := 0, slots := 0, locals := 87 } : Room) s m args below meth c H locs 0 0 Z (F0 m 0 ls [])) (r := rl1) ?_ FU _ hw1 _ _ _ hR hS (lv_sub hl [0] rfl)
  clear hR hS hl hf
  intro s1 o1 hf hk1 H locs ls hR hS hl
  obtain ⟨w1_i_empty, w1_i_away, w1_a_comes⟩ := s1
  have hf : f14_rowTick_s1 i_tick w1_i_empty w1_i_away w1_a_comes = some o1 := hf
  have hR : RS G K (ov I [(1135, o, i_well), (1137, o, w1_i_empty), (1138, o, w1_i_away), (1139, o, i_litresThrown), (1140, o, i_spilt), (1141, o, i_pailsThrown), (1142, o, i_drawn)]) J X (ova A [((o + 2), a_now), ((o + 10), a_team), ((o + 11), a_rest), ((o + 12), a_load), ((o + 13), a_done), ((o + 14), a_queue), ((o + 15), a_waits), ((o + 16), a_most), ((o + 17), w1_a_comes)]) B Q H := hR
  have hl : lv_has ls 2 [(0, .ref o)] := hl
  unfold f14_rowTick_s1 at hf
  refine lv_aload_n hx hb dX14_rowTick_0 rfl (lv_at hl 0 rfl) ?_
  refine n_geti (v := w1_i_away) hx hb hts hown hG hR gFi_X14_313_11 shM.1 (ov_get 2 rfl rfl) dX14_rowTick_1 ?_
  refine lv_if_le (tgt := 73) hx hb dX14_rowTick_4 (by decide) (fun c34 => ?_) (fun c34 => ?_)
  · have hf := ite_t c34 hf
    obtain rfl := some_i hf
    replace hk1 : _ = rl1 := hk1
    subst hk1
    exact hx1_0 (w1_i_empty, w1_i_away, w1_a_comes) hfo1 _ _ _ hR hS (lv_sub hl [0] rfl)
  · have hf := ite_f c34 hf
    refine lv_aload_n hx hb dX14_rowTick_7 rfl (lv_at hl 0 rfl) ?_
    refine g_getr (b := (o + 17)) hx hb hts hown hG hR gFx_X14_60_11 shM.1 ((shM.2 16 _ rfl).2) dX14_rowTick_8 ?_
    refine lv_iconst (v := 0) hx hb dX14_rowTick_11 li_0 ?_
    obtain ⟨c35, hf⟩ := gd_some hf
    obtain ⟨v36, ev36, hf⟩ := lt_some hf
    refine n_iald (x := w1_a_comes) hx hb hG hR k_a_comes c35 (ova_get 8 hN_A rfl) ev36 dX14_rowTick_12 ?_
    refine lv_aload_n hx hb dX14_rowTick_13 rfl (lv_at hl 0 rfl) ?_
    refine n_geti (v := i_tick) hx hb hts hown hG hR gFi_X14_307_11 shM.1 ((congrFun (ov_no rfl) _).trans e_i_tick) dX14_rowTick_14 ?_
    refine lv_icmp_gt (tgt := 73) hx hb dX14_rowTick_17 (by decide) (fun c37 => ?_) (fun c37 => ?_)
    · have hf := ite_t c37 hf
      obtain rfl := some_i hf
      replace hk1 : _ = rl1 := hk1
      subst hk1
      exact hx1_0 (w1_i_empty, w1_i_away, w1_a_comes) hfo1 _ _ _ hR hS (lv_sub hl [0] rfl)
    · have hf := ite_f c37 hf
      refine lv_aload_n hx hb dX14_rowTick_20 rfl (lv_at hl 0 rfl) ?_
      refine lv_dup hx hb dX14_rowTick_21 rfl ?_
      refine n_geti (v := w1_i_empty) hx hb hts hown hG hR gFi_X14_310_11 shM.1 (ov_get 1 rfl rfl) dX14_rowTick_22 ?_
      refine lv_iconst (v := 1) hx hb dX14_rowTick_25 li_1 ?_
      obtain ⟨v38, ev38, hf⟩ := lt_some hf
      refine n_iadd hx hb ev38 dX14_rowTick_26 ?_
      refine n_puti (li' := [(1135, o, i_well), (1137, o, v38), (1138, o, w1_i_away), (1139, o, i_litresThrown), (1140, o, i_spilt), (1141, o, i_pailsThrown), (1142, o, i_drawn)]) hx hb hts hown hG hR hS gPi_X14_310_11 shM.1 1 rfl rfl rfl dX14_rowTick_27 (fun H locs hR hS => ?_)
      refine lv_aload_n hx hb dX14_rowTick_30 rfl (lv_at hl 0 rfl) ?_
      refine lv_dup hx hb dX14_rowTick_31 rfl ?_
      refine n_geti (v := w1_i_away) hx hb hts hown hG hR gFi_X14_313_11 shM.1 (ov_get 2 rfl rfl) dX14_rowTick_32 ?_
      refine lv_iconst (v := 1) hx hb dX14_rowTick_35 li_1 ?_
      obtain ⟨v39, ev39, hf⟩ := lt_some hf
      refine n_isub hx hb ev39 dX14_rowTick_36 ?_
      refine n_puti (li' := [(1135, o, i_well), (1137, o, v38), (1138, o, v39), (1139, o, i_litresThrown), (1140, o, i_spilt), (1141, o, i_pailsThrown), (1142, o, i_drawn)]) hx hb hts hown hG hR hS gPi_X14_313_11 shM.1 2 rfl rfl rfl dX14_rowTick_37 (fun H locs hR hS => ?_)
      refine lv_iconst (v := 0) hx hb dX14_rowTick_40 li_0 ?_
      refine lv_istore_n (lv' := [(1, .int (0 : Int32)), (0, .ref o)]) hx hb dX14_rowTick_41 rfl hl (by decide) rfl (fun ls hl => ?_)
      obtain ⟨rl40, hw40, hfo40⟩ := bind_s hf
      have hx40_0 : ∀ (x40_0 : (Nat → Int32)), f14_rowTick_e40_0 v38 v39 x40_0 = some o1 → ∀ (H : Heap) (locs : List Loc) (ls : Array Slot), RS G K (ov I [(1135, o, i_well), (1137, o, v38), (1138, o, v39), (1139, o, i_litresThrown), (1140, o, i_spilt), (1141, o, i_pailsThrown), (1142, o, i_drawn)]) J X (ova A [((o + 2), a_now), ((o + 10), a_team), ((o + 11), a_rest), ((o + 12), a_load), ((o + 13), a_done), ((o + 14), a_queue), ((o + 15), a_waits), ((o + 16), a_most), ((o + 17), x40_0)]) B Q H → va_S (gA G) s.heap H locs → lv_has ls 2 [(0, .ref o)] → W p l e ({ frames := 4, cells := 0, slots := 0, locals := 87 } : Room) s m args below meth c H locs 0 0 Z (F0 m 70 ls []) := by
        intro x40_0 hf H locs ls hR hS hl
        unfold f14_rowTick_e40_0 at hf
        refine lv_goto (tgt := 0) hx hb dX14_rowTick_70 (by decide) ?_
        obtain rfl := some_i hf
        exact hk1 _ _ _ hR hS (lv_sub hl [0] rfl)
      refine whl_walk (P := fun (s40 : Int32 × (Nat → Int32)) => ∀ (H : Heap) (locs : List Loc) (ls : Array Slot), RS G K (ov I [(1135, o, i_well), (1137, o, v38), (1138, o, v39), (1139, o, i_litresThrown), (1140, o, i_spilt), (1141, o, i_pailsThrown), (1142, o, i_drawn)]) J X (ova A [((o + 2), a_now), ((o + 10), a_team), ((o + 11), a_rest), ((o + 12), a_load), ((o + 13), a_done), ((o + 14), a_queue), ((o + 15), a_waits), ((o + 16), a_most), ((o + 17), s40.2)]) B Q H → va_S (gA G) s.heap H locs → lv_has ls 2 [(0, .ref o), (1, .int s40.1)] → W p l e ({ frames := 4, cells := 0, slots := 0, locals := 87 } : Room) s m args below meth c H locs 0 0 Z (F0 m 42 ls [])) (r := rl40) ?_ FU _ hw40 _ _ _ hR hS (lv_sub hl [1, 0] rfl)
      clear hR hS hl hf
      intro s40 o40 hf hk40 H locs ls hR hS hl
      obtain ⟨w40_1, w40_a_comes⟩ := s40
      have hf : f14_rowTick_s40 v39 w40_1 w40_a_comes = some o40 := hf
      have hR : RS G K (ov I [(1135, o, i_well), (1137, o, v38), (1138, o, v39), (1139, o, i_litresThrown), (1140, o, i_spilt), (1141, o, i_pailsThrown), (1142, o, i_drawn)]) J X (ova A [((o + 2), a_now), ((o + 10), a_team), ((o + 11), a_rest), ((o + 12), a_load), ((o + 13), a_done), ((o + 14), a_queue), ((o + 15), a_waits), ((o + 16), a_most), ((o + 17), w40_a_comes)]) B Q H := hR
      have hl : lv_has ls 2 [(0, .ref o), (1, .int w40_1)] := hl
      unfold f14_rowTick_s40 at hf
      refine lv_iload_n hx hb dX14_rowTick_42 rfl (lv_at hl 1 rfl) ?_
      refine lv_aload_n hx hb dX14_rowTick_43 rfl (lv_at hl 0 rfl) ?_
      refine n_geti (v := v39) hx hb hts hown hG hR gFi_X14_313_11 shM.1 (ov_get 2 rfl rfl) dX14_rowTick_44 ?_
      refine lv_icmp_ge (tgt := 70) hx hb dX14_rowTick_47 (by decide) (fun c41 => ?_) (fun c41 => ?_)
      · have hf := ite_t c41 hf
        obtain rfl := some_i hf
        replace hk40 : _ = rl40 := hk40
        subst hk40
        exact hx40_0 w40_a_comes hfo40 _ _ _ hR hS (lv_sub hl [0] rfl)
      · have hf := ite_f c41 hf
        refine lv_aload_n hx hb dX14_rowTick_50 rfl (lv_at hl 0 rfl) ?_
        refine g_getr (b := (o + 17)) hx hb hts hown hG hR gFx_X14_60_11 shM.1 ((shM.2 16 _ rfl).2) dX14_rowTick_51 ?_
        refine lv_iload_n hx hb dX14_rowTick_54 rfl (lv_at hl 1 rfl) ?_
        refine lv_aload_n hx hb dX14_rowTick_55 rfl (lv_at hl 0 rfl) ?_
        refine g_getr (b := (o + 17)) hx hb hts hown hG hR gFx_X14_60_11 shM.1 ((shM.2 16 _ rfl).2) dX14_rowTick_56 ?_
        refine lv_iload_n hx hb dX14_rowTick_59 rfl (lv_at hl 1 rfl) ?_
        refine lv_iconst (v := 1) hx hb dX14_rowTick_60 li_1 ?_
        obtain ⟨v42, ev42, hf⟩ := lt_some hf
        refine n_iadd hx hb ev42 dX14_rowTick_61 ?_
        obtain ⟨c43, hf⟩ := gd_some hf
        obtain ⟨v44, ev44, hf⟩ := lt_some hf
        refine n_iald (x := w40_a_comes) hx hb hG hR k_a_comes c43 (ova_get 8 hN_A rfl) ev44 dX14_rowTick_62 ?_
        obtain ⟨c45, hf⟩ := gd_some hf
        obtain ⟨u46, eu46, hf⟩ := lt_some hf
        refine n_iast (la' := [((o + 2), a_now), ((o + 10), a_team), ((o + 11), a_rest), ((o + 12), a_load), ((o + 13), a_done), ((o + 14), a_queue), ((o + 15), a_waits), ((o + 16), a_most), ((o + 17), u46)]) hx hb hG hR hS k_a_comes c45 hN_A 8 rfl eu46 rfl dX14_rowTick_63 (fun H locs hR hS => ?_)
        obtain ⟨v47, ev47, hf⟩ := lt_some hf
        refine lv_iinc (k := 1) (v := v47) (lv' := [(1, .int v47), (0, .ref o)]) hx hb dX14_rowTick_64 hl rfl (by rw [ev47]; rfl) (by decide) rfl (fun ls hl => ?_)
        refine lv_goto (tgt := 42) hx hb dX14_rowTick_67 (by decide) ?_
        obtain rfl := some_i hf
        exact hk40 _ _ _ hR hS (lv_sub hl [1, 0] rfl)
noncomputable def f14_more_e7_0 (rr1 : Int32 × Int32 × Int32 × Int32 × (Nat → Int32) × (Nat → Int32)) (x6_0 : (Nat → Int32)) (x7_0 : (Nat → Int32)) : Option (Int32 × Int32 × Int32 × Int32 × Int32 × Int32 × (Nat → Int32) × (Nat → Int32) × (Nat → Int32) × (Nat → Int32)) :=
  (f14_longest rr1.2.2.2.1 rr1.2.2.2.2.1 rr1.2.2.2.2.2 x6_0).bind fun rr8 =>
  (f14_shared rr8 rr1.2.2.2.1 rr1.2.2.2.2.1 rr1.2.2.2.2.2 x6_0).bind fun rr9 =>
  some (rr9, (0 : Int32), rr1.2.1, rr1.2.2.1, rr1.2.2.2.1, rr1.2.2.2.1, rr1.2.2.2.2.1, rr1.2.2.2.2.2, x6_0, x7_0)

noncomputable def f14_more_s7 (rr1 : Int32 × Int32 × Int32 × Int32 × (Nat → Int32) × (Nat → Int32)) (x6_0 : (Nat → Int32)) (w7_2 : Int32) (w7_a_besideTold : Nat → Int32) : Option ((Int32 × (Nat → Int32)) ⊕ ((Nat → Int32))) :=
  if rr1.2.2.2.1 ≤ w7_2 then
    some (.inr w7_a_besideTold)
  else
    gd (inb w7_2 12) <|
    lt (x6_0 w7_2.toNatClampNeg) fun v12 =>
    gd (inb w7_2 12) <|
    lt (upd w7_a_besideTold w7_2.toNatClampNeg v12) fun u14 =>
    lt (w7_2 + (1 : Int32)) fun v15 =>
    some (.inl (v15, u14))

noncomputable def f14_more_e6_0 (a_besideTold : Nat → Int32) (rr1 : Int32 × Int32 × Int32 × Int32 × (Nat → Int32) × (Nat → Int32)) (x6_0 : (Nat → Int32)) : Option (Int32 × Int32 × Int32 × Int32 × Int32 × Int32 × (Nat → Int32) × (Nat → Int32) × (Nat → Int32) × (Nat → Int32)) :=
  (whl (fun (s7 : Int32 × (Nat → Int32)) => f14_more_s7 rr1 x6_0 s7.1 s7.2) FU ((0 : Int32), a_besideTold)).bind fun rl7 =>
  f14_more_e7_0 rr1 x6_0 rl7

noncomputable def f14_more_s6 (p1 : Int32) (rr1 : Int32 × Int32 × Int32 × Int32 × (Nat → Int32) × (Nat → Int32)) (w6_2 : Int32) (w6_a_beside : Nat → Int32) : Option ((Int32 × (Nat → Int32)) ⊕ ((Nat → Int32))) :=
  if p1 ≤ w6_2 then
    some (.inr w6_a_beside)
  else
    (f14_longest rr1.2.2.2.1 rr1.2.2.2.2.1 rr1.2.2.2.2.2 w6_a_beside).bind fun rr17 =>
    gd (inb rr17 12) <|
    lt (w6_a_beside rr17.toNatClampNeg) fun v19 =>
    lt (v19 + (1 : Int32)) fun v20 =>
    gd (inb rr17 12) <|
    lt (upd w6_a_beside rr17.toNatClampNeg v20) fun u22 =>
    lt (w6_2 + (1 : Int32)) fun v23 =>
    some (.inl (v23, u22))

noncomputable def f14_more_e5_0 (p1 : Int32) (a_besideTold : Nat → Int32) (rr1 : Int32 × Int32 × Int32 × Int32 × (Nat → Int32) × (Nat → Int32)) (x5_0 : (Nat → Int32)) : Option (Int32 × Int32 × Int32 × Int32 × Int32 × Int32 × (Nat → Int32) × (Nat → Int32) × (Nat → Int32) × (Nat → Int32)) :=
  (whl (fun (s6 : Int32 × (Nat → Int32)) => f14_more_s6 p1 rr1 s6.1 s6.2) FU ((0 : Int32), x5_0)).bind fun rl6 =>
  f14_more_e6_0 a_besideTold rr1 rl6

noncomputable def f14_more_s5 (rr1 : Int32 × Int32 × Int32 × Int32 × (Nat → Int32) × (Nat → Int32)) (w5_2 : Int32) (w5_a_beside : Nat → Int32) : Option ((Int32 × (Nat → Int32)) ⊕ ((Nat → Int32))) :=
  if rr1.2.2.2.1 ≤ w5_2 then
    some (.inr w5_a_beside)
  else
    gd (inb w5_2 12) <|
    lt (upd w5_a_beside w5_2.toNatClampNeg (0 : Int32)) fun u26 =>
    lt (w5_2 + (1 : Int32)) fun v27 =>
    some (.inl (v27, u26))

noncomputable def f14_more (p1 : Int32) (i_thrown : Int32) (i_taped : Int32) (i_isBegun : Int32) (i_teamMany : Int32) (i_besideMany : Int32) (a_tape : Nat → Int32) (a_now : Nat → Int32) (a_team : Nat → Int32) (a_beside : Nat → Int32) (a_besideTold : Nat → Int32) : Option (Int32 × Int32 × Int32 × Int32 × Int32 × Int32 × (Nat → Int32) × (Nat → Int32) × (Nat → Int32) × (Nat → Int32)) :=
  (f14_takesTeam (2 : Int32) (12 : Int32) (1 : Int32) i_taped i_isBegun i_teamMany a_tape a_now a_team).bind fun rr1 =>
  if rr1.1 = 0 then
    some ((-1 : Int32), (0 : Int32), rr1.2.1, rr1.2.2.1, rr1.2.2.2.1, i_besideMany, rr1.2.2.2.2.1, rr1.2.2.2.2.2, a_beside, a_besideTold)
  else
    (f14_isIn p1 (0 : Int32) (9 : Int32)).bind fun rr3 =>
    if rr3 = 0 then
      some ((-1 : Int32), (0 : Int32), rr1.2.1, rr1.2.2.1, rr1.2.2.2.1, i_besideMany, rr1.2.2.2.2.1, rr1.2.2.2.2.2, a_beside, a_besideTold)
    else
      (whl (fun (s5 : Int32 × (Nat → Int32)) => f14_more_s5 rr1 s5.1 s5.2) FU ((0 : Int32), a_beside)).bind fun rl5 =>
      f14_more_e5_0 p1 a_besideTold rr1 rl5
set_option maxHeartbeats 4000000 in
theorem m14_more (l : Launch) (G : gG) (K : gK) (I : gI) (J : gJ) (X : gX) (A : gI) (B : gJ) (Q : gX) (o : Nat) (shM : Sh K X o 11 rows11) (p1 : Int32) (i_thrown : Int32) (i_taped : Int32) (i_isBegun : Int32) (i_teamMany : Int32) (i_besideMany : Int32) (a_tape : Nat → Int32) (a_now : Nat → Int32) (a_team : Nat → Int32) (a_beside : Nat → Int32) (a_besideTold : Nat → Int32) (e_i_thrown : I 1100 o = i_thrown) (e_i_taped : I 1102 o = i_taped) (e_i_isBegun : I 1122 o = i_isBegun) (e_i_teamMany : I 1133 o = i_teamMany) (e_i_besideMany : I 1155 o = i_besideMany) (e_a_tape : A (o + 1) = a_tape) (e_a_now : A (o + 2) = a_now) (e_a_team : A (o + 10) = a_team) (e_a_beside : A (o + 25) = a_beside) (e_a_besideTold : A (o + 26) = a_besideTold) (out : Int32 × Int32 × Int32 × Int32 × Int32 × Int32 × (Nat → Int32) × (Nat → Int32) × (Nat → Int32) × (Nat → Int32)) (hf : f14_more p1 i_thrown i_taped i_isBegun i_teamMany i_besideMany a_tape a_now a_team a_beside a_besideTold = some out) : GMet l yX14_more cX14_more 3 (some .int) (5) (110) G [.ref o, .int p1] K I J X A B Q (some (.int out.1)) K (ov I [(1100, o, out.2.1), (1102, o, out.2.2.1), (1122, o, out.2.2.2.1), (1133, o, out.2.2.2.2.1), (1155, o, out.2.2.2.2.2.1)]) J X (ova A [((o + 1), a_tape), ((o + 2), out.2.2.2.2.2.2.1), ((o + 10), out.2.2.2.2.2.2.2.1), ((o + 25), out.2.2.2.2.2.2.2.2.1), ((o + 26), out.2.2.2.2.2.2.2.2.2)]) B Q 0 0 := by
  refine GMet.of (y := yX14_more) rfl (Nat.le_of_ble_eq_true rfl) rfl ?_
  intro p e s m below meth c ls hx hb hr hml hlocks hts hown hname hG hR hl
  have hown : s.vm.findClass RX14 = some m.cls := hown
  have k_a_tape : K (o + 1) = some (.inr (0, 740)) := (shM.2 0 _ rfl).1
  have k_a_now : K (o + 2) = some (.inr (0, 800)) := (shM.2 1 _ rfl).1
  have k_a_team : K (o + 10) = some (.inr (0, 12)) := (shM.2 9 _ rfl).1
  have k_a_beside : K (o + 25) = some (.inr (0, 12)) := (shM.2 24 _ rfl).1
  have k_a_besideTold : K (o + 26) = some (.inr (0, 12)) := (shM.2 25 _ rfl).1
  have hN_A : nda [(o + 1), (o + 2), (o + 10), (o + 25), (o + 26)] := nd_off o [1, 2, 10, 25, 26] rfl
  have hR : RS G K (ov I [(1100, o, i_thrown), (1102, o, i_taped), (1122, o, i_isBegun), (1133, o, i_teamMany), (1155, o, i_besideMany)]) J X (ova A [((o + 1), a_tape), ((o + 2), a_now), ((o + 10), a_team), ((o + 25), a_beside), ((o + 26), a_besideTold)]) B Q s.heap := hR.to (Eq.symm (ov_sc e_i_thrown (ov_sc e_i_taped (ov_sc e_i_isBegun (ov_sc e_i_teamMany (ov_sc e_i_besideMany rfl)))))) rfl rfl (Eq.symm (ova_sc e_a_tape (ova_sc e_a_now (ova_sc e_a_team (ova_sc e_a_beside (ova_sc e_a_besideTold rfl)))))) rfl rfl
  have hS : va_S (gA G) s.heap s.heap [] := va_S.rf
  have hend : ∀ (pc : Nat) (H : Heap) (locs : List Loc) (ls : Array Slot), decode cX14_more pc = .ok (.ireturn, 1) → RS G K (ov I [(1100, o, out.2.1), (1102, o, out.2.2.1), (1122, o, out.2.2.2.1), (1133, o, out.2.2.2.2.1), (1155, o, out.2.2.2.2.2.1)]) J X (ova A [((o + 1), a_tape), ((o + 2), out.2.2.2.2.2.2.1), ((o + 10), out.2.2.2.2.2.2.2.1), ((o + 25), out.2.2.2.2.2.2.2.2.1), ((o + 26), out.2.2.2.2.2.2.2.2.2)]) B Q H → va_S (gA G) s.heap H locs → W p l e ({ frames := 5, cells := 0, slots := 0, locals := 110 } : Room) s m ([.ref o, .int p1] : List Value).toArray below meth c H locs 0 0 (MQ below (gQ G (some (.int out.1)) K (ov I [(1100, o, out.2.1), (1102, o, out.2.2.1), (1122, o, out.2.2.2.1), (1133, o, out.2.2.2.2.1), (1155, o, out.2.2.2.2.2.1)]) J X (ova A [((o + 1), a_tape), ((o + 2), out.2.2.2.2.2.2.1), ((o + 10), out.2.2.2.2.2.2.2.1), ((o + 25), out.2.2.2.2.2.2.2.2.1), ((o + 26), out.2.2.2.2.2.2.2.2.2)]) B Q) ([.ref o, .int p1] : List Value).toArray s 0 0 (gA G)) (F0 m pc ls [.int out.1]) := fun pc H locs ls hd hR hS => g_iret hx hb hr hlocks hG hR hS rfl hd
  generalize MQ below (gQ G (some (.int out.1)) K (ov I [(1100, o, out.2.1), (1102, o, out.2.2.1), (1122, o, out.2.2.2.1), (1133, o, out.2.2.2.2.1), (1155, o, out.2.2.2.2.2.1)]) J X (ova A [((o + 1), a_tape), ((o + 2), out.2.2.2.2.2.2.1), ((o + 10), out.2.2.2.2.2.2.2.1), ((o + 25), out.2.2.2.2.2.2.2.2.1), ((o + 26), out.2.2.2.2.2.2.2.2.2)]) B Q) ([.ref o, .int p1] : List Value).toArray s 0 0 (gA G) = Z at hend ⊢
  generalize ([.ref o, .int p1] : List Value).toArray = args at hts hend ⊢
  unfold f14_more at hf
  refine lv_aload_n hx hb dX14_more_0 rfl (lv_at hl 0 rfl) ?_
  refine lv_iconst (v := 0) hx hb dX14_more_1 li_0 ?_
  refine n_puti (li' := [(1100, o, (0 : Int32)), (1102, o, i_taped), (1122, o, i_isBegun), (1133, o, i_teamMany), (1155, o, i_besideMany)]) hx hb hts hown hG hR hS gPi_X14_148_11 shM.1 0 rfl rfl rfl dX14_more_2 (fun H locs hR hS => ?_)
  refine lv_aload_n hx hb dX14_more_5 rfl (lv_at hl 0 rfl) ?_
  refine lv_iconst (v := 2) hx hb dX14_more_6 li_2 ?_
  refine lv_bipush (v := 12) hx hb dX14_more_7 lb_12 ?_
  refine lv_iconst (v := 1) hx hb dX14_more_9 li_1 ?_
  obtain ⟨rr1, hrr1, hf⟩ := bind_s hf
  refine g0_cV (rm := (2, 41)) (As := [.int (2 : Int32), .int (12 : Int32), .int (1 : Int32)]) (rest := []) ⟨hx, hb, hml, hown, hts⟩ hG hR hS (m14_takesTeam l G K (ov I [(1100, o, (0 : Int32)), (1102, o, i_taped), (1122, o, i_isBegun), (1133, o, i_teamMany), (1155, o, i_besideMany)]) J X (ova A [((o + 1), a_tape), ((o + 2), a_now), ((o + 10), a_team), ((o + 25), a_beside), ((o + 26), a_besideTold)]) B Q o shM (2 : Int32) (12 : Int32) (1 : Int32) i_taped i_isBegun i_teamMany a_tape a_now a_team (ov_get 1 rfl rfl) (ov_get 2 rfl rfl) (ov_get 3 rfl rfl) (ova_get 0 hN_A rfl) (ova_get 1 hN_A rfl) (ova_get 2 hN_A rfl) rr1 hrr1) (cwV 3 hts gi_X14_372 rfl rfl rfl hd_X14_takesTeam ⟨Nat.le_of_ble_eq_true rfl, Nat.le_of_ble_eq_true rfl⟩) shM.1 rfl rfl hl.1 (Nat.le_of_ble_eq_true rfl) dX14_more_10 ⟨Nat.le_refl _, Nat.le_refl _⟩ rfl (fun H locs hR hS => ?_)
  have hR : RS G K (ov I [(1100, o, (0 : Int32)), (1102, o, rr1.2.1), (1122, o, rr1.2.2.1), (1133, o, rr1.2.2.2.1), (1155, o, i_besideMany)]) J X (ova A [((o + 1), a_tape), ((o + 2), rr1.2.2.2.2.1), ((o + 10), rr1.2.2.2.2.2), ((o + 25), a_beside), ((o + 26), a_besideTold)]) B Q H := hR.to (ov_merge (l := [(1100, o, (0 : Int32)), (1102, o, i_taped), (1122, o, i_isBegun), (1133, o, i_teamMany), (1155, o, i_besideMany)]) rfl [1, 2, 3] [(1102, o, rr1.2.1), (1122, o, rr1.2.2.1), (1133, o, rr1.2.2.2.1)] rfl rfl) rfl rfl (ova_merge (l := [((o + 1), a_tape), ((o + 2), a_now), ((o + 10), a_team), ((o + 25), a_beside), ((o + 26), a_besideTold)]) hN_A [0, 1, 2] [((o + 1), a_tape), ((o + 2), rr1.2.2.2.2.1), ((o + 10), rr1.2.2.2.2.2)] rfl rfl) rfl rfl
  refine lv_if_eq (tgt := 26) hx hb dX14_more_13 (by decide) (fun c2 => ?_) (fun c2 => ?_)
  · have hf := ite_t c2 hf
    refine lv_iconst (v := -1) hx hb dX14_more_26 li_m1 ?_
    obtain rfl := some_i hf
    exact hend _ _ _ _ dX14_more_27 hR hS
  · have hf := ite_f c2 hf
    refine lv_iload_n hx hb dX14_more_16 rfl (lv_at hl 1 rfl) ?_
    refine lv_iconst (v := 0) hx hb dX14_more_17 li_0 ?_
    refine lv_bipush (v := 9) hx hb dX14_more_18 lb_9 ?_
    obtain ⟨rr3, hrr3, hf⟩ := bind_s hf
    refine g0_cS (rm := (0, 0)) (As := [.int p1, .int (0 : Int32), .int (9 : Int32)]) (rest := []) ⟨hx, hb, hml, hown, hts⟩ hG hR hS (m14_isIn l G K (ov I [(1100, o, (0 : Int32)), (1102, o, rr1.2.1), (1122, o, rr1.2.2.1), (1133, o, rr1.2.2.2.1), (1155, o, i_besideMany)]) J X (ova A [((o + 1), a_tape), ((o + 2), rr1.2.2.2.2.1), ((o + 10), rr1.2.2.2.2.2), ((o + 25), a_beside), ((o + 26), a_besideTold)]) B Q p1 (0 : Int32) (9 : Int32) rr3 hrr3) (cwS 3 hts gi_X14_219 rfl rfl rfl hd_X14_isIn ⟨Nat.le_of_ble_eq_true rfl, Nat.le_of_ble_eq_true rfl⟩) rfl hl.1 (Nat.le_of_ble_eq_true rfl) dX14_more_20 ⟨Nat.le_refl _, Nat.le_refl _⟩ rfl (fun H locs hR hS => ?_)
    refine lv_if_ne (tgt := 28) hx hb dX14_more_23 (by decide) (fun c4 => ?_) (fun c4 => ?_)
    · have hf := ite_f c4 hf
      refine lv_iconst (v := 0) hx hb dX14_more_28 li_0 ?_
      refine lv_istore_n (lv' := [(2, .int (0 : Int32)), (0, .ref o), (1, .int p1)]) hx hb dX14_more_29 rfl hl (by decide) rfl (fun ls hl => ?_)
      obtain ⟨rl5, hw5, hfo5⟩ := bind_s hf
      have hx5_0 : ∀ (x5_0 : (Nat → Int32)), f14_more_e5_0 p1 a_besideTold rr1 x5_0 = some out → ∀ (H : Heap) (locs : List Loc) (ls : Array Slot), RS G K (ov I [(1100, o, (0 : Int32)), (1102, o, rr1.2.1), (1122, o, rr1.2.2.1), (1133, o, rr1.2.2.2.1), (1155, o, i_besideMany)]) J X (ova A [((o + 1), a_tape), ((o + 2), rr1.2.2.2.2.1), ((o + 10), rr1.2.2.2.2.2), ((o + 25), x5_0), ((o + 26), a_besideTold)]) B Q H → va_S (gA G) s.heap H locs → lv_has ls 3 [(0, .ref o), (1, .int p1)] → W p l e ({ frames := 5, cells := 0, slots := 0, locals := 110 } : Room) s m args below meth c H locs 0 0 Z (F0 m 51 ls []) := by
        intro x5_0 hf H locs ls hR hS hl
        unfold f14_more_e5_0 at hf
        refine lv_iconst (v := 0) hx hb dX14_more_51 li_0 ?_
        refine lv_istore_n (lv' := [(2, .int (0 : Int32)), (0, .ref o), (1, .int p1)]) hx hb dX14_more_52 rfl hl (by decide) rfl (fun ls hl => ?_)
        obtain ⟨rl6, hw6, hfo6⟩ := bind_s hf
        have hx6_0 : ∀ (x6_0 : (Nat → Int32)), f14_more_e6_0 a_besideTold rr1 x6_0 = some out → ∀ (H : Heap) (locs : List Loc) (ls : Array Slot), RS G K (ov I [(1100, o, (0 : Int32)), (1102, o, rr1.2.1), (1122, o, rr1.2.2.1), (1133, o, rr1.2.2.2.1), (1155, o, i_besideMany)]) J X (ova A [((o + 1), a_tape), ((o + 2), rr1.2.2.2.2.1), ((o + 10), rr1.2.2.2.2.2), ((o + 25), x6_0), ((o + 26), a_besideTold)]) B Q H → va_S (gA G) s.heap H locs → lv_has ls 3 [(0, .ref o)] → W p l e ({ frames := 5, cells := 0, slots := 0, locals := 110 } : Room) s m args below meth c H locs 0 0 Z (F0 m 81 ls []) := by
          intro x6_0 hf H locs ls hR hS hl
          unfold f14_more_e6_0 at hf
          refine lv_aload_n hx hb dX14_more_81 rfl (lv_at hl 0 rfl) ?_
          refine lv_aload_n hx hb dX14_more_82 rfl (lv_at hl 0 rfl) ?_
          refine n_geti (v := rr1.2.2.2.1) hx hb hts hown hG hR gFi_X14_304_11 shM.1 (ov_get 3 rfl rfl) dX14_more_83 ?_
          refine n_puti (li' := [(1100, o, (0 : Int32)), (1102, o, rr1.2.1), (1122, o, rr1.2.2.1), (1133, o, rr1.2.2.2.1), (1155, o, rr1.2.2.2.1)]) hx hb hts hown hG hR hS gPi_X14_405_11 shM.1 4 rfl rfl rfl dX14_more_86 (fun H locs hR hS => ?_)
          refine lv_iconst (v := 0) hx hb dX14_more_89 li_0 ?_
          refine lv_istore_n (lv' := [(2, .int (0 : Int32)), (0, .ref o)]) hx hb dX14_more_90 rfl hl (by decide) rfl (fun ls hl => ?_)
          obtain ⟨rl7, hw7, hfo7⟩ := bind_s hf
          have hx7_0 : ∀ (x7_0 : (Nat → Int32)), f14_more_e7_0 rr1 x6_0 x7_0 = some out → ∀ (H : Heap) (locs : List Loc) (ls : Array Slot), RS G K (ov I [(1100, o, (0 : Int32)), (1102, o, rr1.2.1), (1122, o, rr1.2.2.1), (1133, o, rr1.2.2.2.1), (1155, o, rr1.2.2.2.1)]) J X (ova A [((o + 1), a_tape), ((o + 2), rr1.2.2.2.2.1), ((o + 10), rr1.2.2.2.2.2), ((o + 25), x6_0), ((o + 26), x7_0)]) B Q H → va_S (gA G) s.heap H locs → lv_has ls 3 [(0, .ref o)] → W p l e ({ frames := 5, cells := 0, slots := 0, locals := 110 } : Room) s m args below meth c H locs 0 0 Z (F0 m 117 ls []) := by
            intro x7_0 hf H locs ls hR hS hl
            unfold f14_more_e7_0 at hf
            refine lv_aload_n hx hb dX14_more_117 rfl (lv_at hl 0 rfl) ?_
            refine lv_aload_n hx hb dX14_more_118 rfl (lv_at hl 0 rfl) ?_
            refine lv_aload_n hx hb dX14_more_119 rfl (lv_at hl 0 rfl) ?_
            refine n_geti (v := rr1.2.2.2.1) hx hb hts hown hG hR gFi_X14_304_11 shM.1 (ov_get 3 rfl rfl) dX14_more_120 ?_
            obtain ⟨rr8, hrr8, hf⟩ := bind_s hf
            refine g0_cV (rm := (4, 87)) (As := [.int rr1.2.2.2.1]) (rest := [.ref o]) ⟨hx, hb, hml, hown, hts⟩ hG hR hS (m14_longest l G K (ov I [(1100, o, (0 : Int32)), (1102, o, rr1.2.1), (1122, o, rr1.2.2.1), (1133, o, rr1.2.2.2.1), (1155, o, rr1.2.2.2.1)]) J X (ova A [((o + 1), a_tape), ((o + 2), rr1.2.2.2.2.1), ((o + 10), rr1.2.2.2.2.2), ((o + 25), x6_0), ((o + 26), x7_0)]) B Q o shM rr1.2.2.2.1 rr1.2.2.2.2.1 rr1.2.2.2.2.2 x6_0 (ova_get 1 hN_A rfl) (ova_get 2 hN_A rfl) (ova_get 3 hN_A rfl) rr8 hrr8) (cwV 1 hts gi_X14_402 rfl rfl rfl hd_X14_longest ⟨Nat.le_of_ble_eq_true rfl, Nat.le_of_ble_eq_true rfl⟩) shM.1 rfl rfl hl.1 (Nat.le_of_ble_eq_true rfl) dX14_more_123 ⟨Nat.le_refl _, Nat.le_refl _⟩ rfl (fun H locs hR hS => ?_)
            refine lv_aload_n hx hb dX14_more_126 rfl (lv_at hl 0 rfl) ?_
            refine n_geti (v := rr1.2.2.2.1) hx hb hts hown hG hR gFi_X14_304_11 shM.1 (ov_get 3 rfl rfl) dX14_more_127 ?_
            obtain ⟨rr9, hrr9, hf⟩ := bind_s hf
            refine g0_cV (rm := (3, 65)) (As := [.int rr8, .int rr1.2.2.2.1]) (rest := []) ⟨hx, hb, hml, hown, hts⟩ hG hR hS (m14_shared l G K (ov I [(1100, o, (0 : Int32)), (1102, o, rr1.2.1), (1122, o, rr1.2.2.1), (1133, o, rr1.2.2.2.1), (1155, o, rr1.2.2.2.1)]) J X (ova A [((o + 1), a_tape), ((o + 2), rr1.2.2.2.2.1), ((o + 10), rr1.2.2.2.2.2), ((o + 25), x6_0), ((o + 26), x7_0)]) B Q o shM rr8 rr1.2.2.2.1 rr1.2.2.2.2.1 rr1.2.2.2.2.2 x6_0 (ova_get 1 hN_A rfl) (ova_get 2 hN_A rfl) (ova_get 3 hN_A rfl) rr9 hrr9) (cwV 2 hts gi_X14_399 rfl rfl rfl hd_X14_shared ⟨Nat.le_of_ble_eq_true rfl, Nat.le_of_ble_eq_true rfl⟩) shM.1 rfl rfl hl.1 (Nat.le_of_ble_eq_true rfl) dX14_more_130 ⟨Nat.le_refl _, Nat.le_refl _⟩ rfl (fun H locs hR hS => ?_)
            obtain rfl := some_i hf
            exact hend _ _ _ _ dX14_more_133 hR hS
          refine whl_walk (P := fun (s7 : Int32 × (Nat → Int32)) => ∀ (H : Heap) (locs : List Loc) (ls : Array Slot), RS G K (ov I [(1100, o, (0 : Int32)), (1102, o, rr1.2.1), (1122, o, rr1.2.2.1), (1133, o, rr1.2.2.2.1), (1155, o, rr1.2.2.2.1)]) J X (ova A [((o + 1), a_tape), ((o + 2), rr1.2.2.2.2.1), ((o + 10), rr1.2.2.2.2.2), ((o + 25), x6_0), ((o + 26), s7.2)]) B Q H → va_S (gA G) s.heap H locs → lv_has ls 3 [(0, .ref o), (2, .int s7.1)] → W p l e ({ frames := 5, cells := 0, slots := 0, locals := 110 } : Room) s m args below meth c H locs 0 0 Z (F0 m 91 ls [])) (r := rl7) ?_ FU _ hw7 _ _ _ hR hS (lv_sub hl [1, 0] rfl)
          clear hR hS hl hf
          intro s7 o7 hf hk7 H locs ls hR hS hl
          obtain ⟨w7_2, w7_a_besideTold⟩ := s7
          have hf : f14_more_s7 rr1 x6_0 w7_2 w7_a_besideTold = some o7 := hf
          have hR : RS G K (ov I [(1100, o, (0 : Int32)), (1102, o, rr1.2.1), (1122, o, rr1.2.2.1), (1133, o, rr1.2.2.2.1), (1155, o, rr1.2.2.2.1)]) J X (ova A [((o + 1), a_tape), ((o + 2), rr1.2.2.2.2.1), ((o + 10), rr1.2.2.2.2.2), ((o + 25), x6_0), ((o + 26), w7_a_besideTold)]) B Q H := hR
          have hl : lv_has ls 3 [(0, .ref o), (2, .int w7_2)] := hl
          unfold f14_more_s7 at hf
          refine lv_iload_n hx hb dX14_more_91 rfl (lv_at hl 1 rfl) ?_
          refine lv_aload_n hx hb dX14_more_92 rfl (lv_at hl 0 rfl) ?_
          refine n_geti (v := rr1.2.2.2.1) hx hb hts hown hG hR gFi_X14_304_11 shM.1 (ov_get 3 rfl rfl) dX14_more_93 ?_
          refine lv_icmp_ge (tgt := 117) hx hb dX14_more_96 (by decide) (fun c10 => ?_) (fun c10 => ?_)
          · have hf := ite_t c10 hf
            obtain rfl := some_i hf
            replace hk7 : _ = rl7 := hk7
            subst hk7
            exact hx7_0 w7_a_besideTold hfo7 _ _ _ hR hS (lv_sub hl [0] rfl)
          · have hf := ite_f c10 hf
            refine lv_aload_n hx hb dX14_more_99 rfl (lv_at hl 0 rfl) ?_
            refine g_getr (b := (o + 26)) hx hb hts hown hG hR gFx_X14_87_11 shM.1 ((shM.2 25 _ rfl).2) dX14_more_100 ?_
            refine lv_iload_n hx hb dX14_more_103 rfl (lv_at hl 1 rfl) ?_
            refine lv_aload_n hx hb dX14_more_104 rfl (lv_at hl 0 rfl) ?_
            refine g_getr (b := (o + 25)) hx hb hts hown hG hR gFx_X14_84_11 shM.1 ((shM.2 24 _ rfl).2) dX14_more_105 ?_
            refine lv_iload_n hx hb dX14_more_108 rfl (lv_at hl 1 rfl) ?_
            obtain ⟨c11, hf⟩ := gd_some hf
            obtain ⟨v12, ev12, hf⟩ := lt_some hf
            refine n_iald (x := x6_0) hx hb hG hR k_a_beside c11 (ova_get 3 hN_A rfl) ev12 dX14_more_109 ?_
            obtain ⟨c13, hf⟩ := gd_some hf
            obtain ⟨u14, eu14, hf⟩ := lt_some hf
            refine n_iast (la' := [((o + 1), a_tape), ((o + 2), rr1.2.2.2.2.1), ((o + 10), rr1.2.2.2.2.2), ((o + 25), x6_0), ((o + 26), u14)]) hx hb hG hR hS k_a_besideTold c13 hN_A 4 rfl eu14 rfl dX14_more_110 (fun H locs hR hS => ?_)
            obtain ⟨v15, ev15, hf⟩ := lt_some hf
            refine lv_iinc (k := 1) (v := v15) (lv' := [(2, .int v15), (0, .ref o)]) hx hb dX14_more_111 hl rfl (by rw [ev15]; rfl) (by decide) rfl (fun ls hl => ?_)
            refine lv_goto (tgt := 91) hx hb dX14_more_114 (by decide) ?_
            obtain rfl := some_i hf
            exact hk7 _ _ _ hR hS (lv_sub hl [1, 0] rfl)
        refine whl_walk (P := fun (s6 : Int32 × (Nat → Int32)) => ∀ (H : Heap) (locs : List Loc) (ls : Array Slot), RS G K (ov I [(1100, o, (0 : Int32)), (1102, o, rr1.2.1), (1122, o, rr1.2.2.1), (1133, o, rr1.2.2.2.1), (1155, o, i_besideMany)]) J X (ova A [((o + 1), a_tape), ((o + 2), rr1.2.2.2.2.1), ((o + 10), rr1.2.2.2.2.2), ((o + 25), s6.2), ((o + 26), a_besideTold)]) B Q H → va_S (gA G) s.heap H locs → lv_has ls 3 [(0, .ref o), (1, .int p1), (2, .int s6.1)] → W p l e ({ frames := 5, cells := 0, slots := 0, locals := 110 } : Room) s m args below meth c H locs 0 0 Z (F0 m 53 ls [])) (r := rl6) ?_ FU _ hw6 _ _ _ hR hS (lv_sub hl [1, 2, 0] rfl)
        clear hR hS hl hf
        intro s6 o6 hf hk6 H locs ls hR hS hl
        obtain ⟨w6_2, w6_a_beside⟩ := s6
        have hf : f14_more_s6 p1 rr1 w6_2 w6_a_beside = some o6 := hf
        have hR : RS G K (ov I [(1100, o, (0 : Int32)), (1102, o, rr1.2.1), (1122, o, rr1.2.2.1), (1133, o, rr1.2.2.2.1), (1155, o, i_besideMany)]) J X (ova A [((o + 1), a_tape), ((o + 2), rr1.2.2.2.2.1), ((o + 10), rr1.2.2.2.2.2), ((o + 25), w6_a_beside), ((o + 26), a_besideTold)]) B Q H := hR
        have hl : lv_has ls 3 [(0, .ref o), (1, .int p1), (2, .int w6_2)] := hl
        unfold f14_more_s6 at hf
        refine lv_iload_n hx hb dX14_more_53 rfl (lv_at hl 2 rfl) ?_
        refine lv_iload_n hx hb dX14_more_54 rfl (lv_at hl 1 rfl) ?_
        refine lv_icmp_ge (tgt := 81) hx hb dX14_more_55 (by decide) (fun c16 => ?_) (fun c16 => ?_)
        · have hf := ite_t c16 hf
          obtain rfl := some_i hf
          replace hk6 : _ = rl6 := hk6
          subst hk6
          exact hx6_0 w6_a_beside hfo6 _ _ _ hR hS (lv_sub hl [0] rfl)
        · have hf := ite_f c16 hf
          refine lv_aload_n hx hb dX14_more_58 rfl (lv_at hl 0 rfl) ?_
          refine g_getr (b := (o + 25)) hx hb hts hown hG hR gFx_X14_84_11 shM.1 ((shM.2 24 _ rfl).2) dX14_more_59 ?_
          refine lv_aload_n hx hb dX14_more_62 rfl (lv_at hl 0 rfl) ?_
          refine lv_aload_n hx hb dX14_more_63 rfl (lv_at hl 0 rfl) ?_
          refine n_geti (v := rr1.2.2.2.1) hx hb hts hown hG hR gFi_X14_304_11 shM.1 (ov_get 3 rfl rfl) dX14_more_64 ?_
          obtain ⟨rr17, hrr17, hf⟩ := bind_s hf
          refine g0_cV (rm := (4, 87)) (As := [.int rr1.2.2.2.1]) (rest := [.ref (o + 25)]) ⟨hx, hb, hml, hown, hts⟩ hG hR hS (m14_longest l G K (ov I [(1100, o, (0 : Int32)), (1102, o, rr1.2.1), (1122, o, rr1.2.2.1), (1133, o, rr1.2.2.2.1), (1155, o, i_besideMany)]) J X (ova A [((o + 1), a_tape), ((o + 2), rr1.2.2.2.2.1), ((o + 10), rr1.2.2.2.2.2), ((o + 25), w6_a_beside), ((o + 26), a_besideTold)]) B Q o shM rr1.2.2.2.1 rr1.2.2.2.2.1 rr1.2.2.2.2.2 w6_a_beside (ova_get 1 hN_A rfl) (ova_get 2 hN_A rfl) (ova_get 3 hN_A rfl) rr17 hrr17) (cwV 1 hts gi_X14_402 rfl rfl rfl hd_X14_longest ⟨Nat.le_of_ble_eq_true rfl, Nat.le_of_ble_eq_true rfl⟩) shM.1 rfl rfl hl.1 (Nat.le_of_ble_eq_true rfl) dX14_more_67 ⟨Nat.le_refl _, Nat.le_refl _⟩ rfl (fun H locs hR hS => ?_)
          refine lv_dup2_11 hx hb dX14_more_70 rfl rfl ?_
          obtain ⟨c18, hf⟩ := gd_some hf
          obtain ⟨v19, ev19, hf⟩ := lt_some hf
          refine n_iald (x := w6_a_beside) hx hb hG hR k_a_beside c18 (ova_get 3 hN_A rfl) ev19 dX14_more_71 ?_
          refine lv_iconst (v := 1) hx hb dX14_more_72 li_1 ?_
          obtain ⟨v20, ev20, hf⟩ := lt_some hf
          refine n_iadd hx hb ev20 dX14_more_73 ?_
          obtain ⟨c21, hf⟩ := gd_some hf
          obtain ⟨u22, eu22, hf⟩ := lt_some hf
          refine n_iast (la' := [((o + 1), a_tape), ((o + 2), rr1.2.2.2.2.1), ((o + 10), rr1.2.2.2.2.2), ((o + 25), u22), ((o + 26), a_besideTold)]) hx hb hG hR hS k_a_beside c21 hN_A 3 rfl eu22 rfl dX14_more_74 (fun H locs hR hS => ?_)
          obtain ⟨v23, ev23, hf⟩ := lt_some hf
          refine lv_iinc (k := 2) (v := v23) (lv' := [(2, .int v23), (0, .ref o), (1, .int p1)]) hx hb dX14_more_75 hl rfl (by rw [ev23]; rfl) (by decide) rfl (fun ls hl => ?_)
          refine lv_goto (tgt := 53) hx hb dX14_more_78 (by decide) ?_
          obtain rfl := some_i hf
          exact hk6 _ _ _ hR hS (lv_sub hl [1, 2, 0] rfl)
      refine whl_walk (P := fun (s5 : Int32 × (Nat → Int32)) => ∀ (H : Heap) (locs : List Loc) (ls : Array Slot), RS G K (ov I [(1100, o, (0 : Int32)), (1102, o, rr1.2.1), (1122, o, rr1.2.2.1), (1133, o, rr1.2.2.2.1), (1155, o, i_besideMany)]) J X (ova A [((o + 1), a_tape), ((o + 2), rr1.2.2.2.2.1), ((o + 10), rr1.2.2.2.2.2), ((o + 25), s5.2), ((o + 26), a_besideTold)]) B Q H → va_S (gA G) s.heap H locs → lv_has ls 3 [(0, .ref o), (1, .int p1), (2, .int s5.1)] → W p l e ({ frames := 5, cells := 0, slots := 0, locals := 110 } : Room) s m args below meth c H locs 0 0 Z (F0 m 30 ls [])) (r := rl5) ?_ FU _ hw5 _ _ _ hR hS (lv_sub hl [1, 2, 0] rfl)
      clear hR hS hl hf
      intro s5 o5 hf hk5 H locs ls hR hS hl
      obtain ⟨w5_2, w5_a_beside⟩ := s5
      have hf : f14_more_s5 rr1 w5_2 w5_a_beside = some o5 := hf
      have hR : RS G K (ov I [(1100, o, (0 : Int32)), (1102, o, rr1.2.1), (1122, o, rr1.2.2.1), (1133, o, rr1.2.2.2.1), (1155, o, i_besideMany)]) J X (ova A [((o + 1), a_tape), ((o + 2), rr1.2.2.2.2.1), ((o + 10), rr1.2.2.2.2.2), ((o + 25), w5_a_beside), ((o + 26), a_besideTold)]) B Q H := hR
      have hl : lv_has ls 3 [(0, .ref o), (1, .int p1), (2, .int w5_2)] := hl
      unfold f14_more_s5 at hf
      refine lv_iload_n hx hb dX14_more_30 rfl (lv_at hl 2 rfl) ?_
      refine lv_aload_n hx hb dX14_more_31 rfl (lv_at hl 0 rfl) ?_
      refine n_geti (v := rr1.2.2.2.1) hx hb hts hown hG hR gFi_X14_304_11 shM.1 (ov_get 3 rfl rfl) dX14_more_32 ?_
      refine lv_icmp_ge (tgt := 51) hx hb dX14_more_35 (by decide) (fun c24 => ?_) (fun c24 => ?_)
      · have hf := ite_t c24 hf
        obtain rfl := some_i hf
        replace hk5 : _ = rl5 := hk5
        subst hk5
        exact hx5_0 w5_a_beside hfo5 _ _ _ hR hS (lv_sub hl [0, 1] rfl)
      · have hf := ite_f c24 hf
        refine lv_aload_n hx hb dX14_more_38 rfl (lv_at hl 0 rfl) ?_
        refine g_getr (b := (o + 25)) hx hb hts hown hG hR gFx_X14_84_11 shM.1 ((shM.2 24 _ rfl).2) dX14_more_39 ?_
        refine lv_iload_n hx hb dX14_more_42 rfl (lv_at hl 2 rfl) ?_
        refine lv_iconst (v := 0) hx hb dX14_more_43 li_0 ?_
        obtain ⟨c25, hf⟩ := gd_some hf
        obtain ⟨u26, eu26, hf⟩ := lt_some hf
        refine n_iast (la' := [((o + 1), a_tape), ((o + 2), rr1.2.2.2.2.1), ((o + 10), rr1.2.2.2.2.2), ((o + 25), u26), ((o + 26), a_besideTold)]) hx hb hG hR hS k_a_beside c25 hN_A 3 rfl eu26 rfl dX14_more_44 (fun H locs hR hS => ?_)
        obtain ⟨v27, ev27, hf⟩ := lt_some hf
        refine lv_iinc (k := 2) (v := v27) (lv' := [(2, .int v27), (0, .ref o), (1, .int p1)]) hx hb dX14_more_45 hl rfl (by rw [ev27]; rfl) (by decide) rfl (fun ls hl => ?_)
        refine lv_goto (tgt := 30) hx hb dX14_more_48 (by decide) ?_
        obtain rfl := some_i hf
        exact hk5 _ _ _ hR hS (lv_sub hl [1, 2, 0] rfl)
    · have hf := ite_t c4 hf
      refine lv_iconst (v := -1) hx hb dX14_more_26 li_m1 ?_
      obtain rfl := some_i hf
      exact hend _ _ _ _ dX14_more_27 hR hS
noncomputable def f14_fire_e15_0 (rr1 : Int32 × (Nat → Int32)) (rr11 : Int32 × Int32 × (Nat → Int32) × (Nat → Int32) × (Nat → Int32) × (Nat → Int32) × (Nat → Int32) × (Nat → Int32)) (rr12 : Int32) (v14 : Int32) (x15_0 : (Nat → Int32)) : Option (Int32 × Int32 × Int32 × Int32 × Int32 × Int32 × Int32 × Int32 × Int32 × (Nat → Int32) × (Nat → Int32) × (Nat → Int32) × (Nat → Int32) × (Nat → Int32) × (Nat → Int32) × (Nat → Int32) × (Nat → Int32)) :=
  some (rr11.1, (0 : Int32), rr1.1, rr11.1, rr11.2.1, rr12, v14, rr11.2.1, (1 : Int32), rr1.2, rr11.2.2.1, rr11.2.2.2.1, rr11.2.2.2.2.1, rr11.2.2.2.2.2.1, rr11.2.2.2.2.2.2.1, rr11.2.2.2.2.2.2.2, x15_0)

noncomputable def f14_fire_s15 (rr1 : Int32 × (Nat → Int32)) (rr11 : Int32 × Int32 × (Nat → Int32) × (Nat → Int32) × (Nat → Int32) × (Nat → Int32) × (Nat → Int32) × (Nat → Int32)) (w15_5 : Int32) (w15_a_fireCell : Nat → Int32) : Option ((Int32 × (Nat → Int32)) ⊕ ((Nat → Int32))) :=
  (f14_cells rr1.2).bind fun rr16 =>
  if rr16 ≤ w15_5 then
    some (.inr w15_a_fireCell)
  else
    lt ((3 : Int32) * w15_5) fun v18 =>
    gd (inb w15_5 64) <|
    lt (rr11.2.2.1 w15_5.toNatClampNeg) fun v20 =>
    gd (inb v18 192) <|
    lt (upd w15_a_fireCell v18.toNatClampNeg v20) fun u22 =>
    lt ((3 : Int32) * w15_5) fun v23 =>
    lt (v23 + (1 : Int32)) fun v24 =>
    gd (inb w15_5 64) <|
    lt (rr11.2.2.2.1 w15_5.toNatClampNeg) fun v26 =>
    gd (inb v24 192) <|
    lt (upd u22 v24.toNatClampNeg v26) fun u28 =>
    lt ((3 : Int32) * w15_5) fun v29 =>
    lt (v29 + (2 : Int32)) fun v30 =>
    gd (inb w15_5 64) <|
    lt (rr11.2.2.2.2.1 w15_5.toNatClampNeg) fun v32 =>
    gd (inb v30 192) <|
    lt (upd u28 v30.toNatClampNeg v32) fun u34 =>
    lt (w15_5 + (1 : Int32)) fun v35 =>
    some (.inl (v35, u34))

noncomputable def f14_fire (p1 : Int32) (p2 : Int32) (p3 : Int32) (p4 : Int32) (i_thrown : Int32) (i_isBegun : Int32) (i_lost : Int32) (i_outAt : Int32) (i_fireColumns : Int32) (i_fireRows : Int32) (i_fireOut : Int32) (i_wasFire : Int32) (a_now : Nat → Int32) (a_fuel : Nat → Int32) (a_burn : Nat → Int32) (a_wet : Nat → Int32) (a_heat : Nat → Int32) (a_fuelWas : Nat → Int32) (a_burnWas : Nat → Int32) (a_fireCell : Nat → Int32) : Option (Int32 × Int32 × Int32 × Int32 × Int32 × Int32 × Int32 × Int32 × Int32 × (Nat → Int32) × (Nat → Int32) × (Nat → Int32) × (Nat → Int32) × (Nat → Int32) × (Nat → Int32) × (Nat → Int32) × (Nat → Int32)) :=
  (f14_lay i_isBegun a_now).bind fun rr1 =>
  (f14_isIn p1 (0 : Int32) (60 : Int32)).bind fun rr2 =>
  if rr2 = 0 then
    some ((-1 : Int32), (0 : Int32), rr1.1, i_lost, i_outAt, i_fireColumns, i_fireRows, i_fireOut, i_wasFire, rr1.2, a_fuel, a_burn, a_wet, a_heat, a_fuelWas, a_burnWas, a_fireCell)
  else
    (f14_isIn p2 (0 : Int32) (999 : Int32)).bind fun rr4 =>
    if rr4 = 0 then
      some ((-1 : Int32), (0 : Int32), rr1.1, i_lost, i_outAt, i_fireColumns, i_fireRows, i_fireOut, i_wasFire, rr1.2, a_fuel, a_burn, a_wet, a_heat, a_fuelWas, a_burnWas, a_fireCell)
    else
      (f14_isAim p3 rr1.2).bind fun rr6 =>
      if rr6 = 0 then
        some ((-1 : Int32), (0 : Int32), rr1.1, i_lost, i_outAt, i_fireColumns, i_fireRows, i_fireOut, i_wasFire, rr1.2, a_fuel, a_burn, a_wet, a_heat, a_fuelWas, a_burnWas, a_fireCell)
      else
        (f14_isIn p4 (0 : Int32) (20 : Int32)).bind fun rr8 =>
        if rr8 = 0 then
          some ((-1 : Int32), (0 : Int32), rr1.1, i_lost, i_outAt, i_fireColumns, i_fireRows, i_fireOut, i_wasFire, rr1.2, a_fuel, a_burn, a_wet, a_heat, a_fuelWas, a_burnWas, a_fireCell)
        else
          (f14_light i_lost rr1.2 a_fuel a_burn a_wet).bind fun rr10 =>
          (f14_fires p1 p2 p3 p4 rr10.1 i_outAt rr1.2 rr10.2.1 rr10.2.2.1 rr10.2.2.2 a_heat a_fuelWas a_burnWas).bind fun rr11 =>
          (f14_columns rr1.2).bind fun rr12 =>
          gd (inb (10 : Int32) 800) <|
          lt (rr1.2 (10 : Int32).toNatClampNeg) fun v14 =>
          (whl (fun (s15 : Int32 × (Nat → Int32)) => f14_fire_s15 rr1 rr11 s15.1 s15.2) FU ((0 : Int32), a_fireCell)).bind fun rl15 =>
          f14_fire_e15_0 rr1 rr11 rr12 v14 rl15
set_option maxHeartbeats 4000000 in
theorem m14_fire (l : Launch) (G : gG) (K : gK) (I : gI) (J : gJ) (X : gX) (A : gI) (B : gJ) (Q : gX) (o : Nat) (shM : Sh K X o 11 rows11) (p1 : Int32) (p2 : Int32) (p3 : Int32) (p4 : Int32) (i_thrown : Int32) (i_isBegun : Int32) (i_lost : Int32) (i_outAt : Int32) (i_fireColumns : Int32) (i_fireRows : Int32) (i_fireOut : Int32) (i_wasFire : Int32) (a_now : Nat → Int32) (a_fuel : Nat → Int32) (a_burn : Nat → Int32) (a_wet : Nat → Int32) (a_heat : Nat → Int32) (a_fuelWas : Nat → Int32) (a_burnWas : Nat → Int32) (a_fireCell : Nat → Int32) (e_i_thrown : I 1100 o = i_thrown) (e_i_isBegun : I 1122 o = i_isBegun) (e_i_lost : I 1170 o = i_lost) (e_i_outAt : I 1171 o = i_outAt) (e_i_fireColumns : I 1173 o = i_fireColumns) (e_i_fireRows : I 1174 o = i_fireRows) (e_i_fireOut : I 1175 o = i_fireOut) (e_i_wasFire : I 1176 o = i_wasFire) (e_a_now : A (o + 2) = a_now) (e_a_fuel : A (o + 32) = a_fuel) (e_a_burn : A (o + 33) = a_burn) (e_a_wet : A (o + 34) = a_wet) (e_a_heat : A (o + 35) = a_heat) (e_a_fuelWas : A (o + 36) = a_fuelWas) (e_a_burnWas : A (o + 37) = a_burnWas) (e_a_fireCell : A (o + 38) = a_fireCell) (out : Int32 × Int32 × Int32 × Int32 × Int32 × Int32 × Int32 × Int32 × Int32 × (Nat → Int32) × (Nat → Int32) × (Nat → Int32) × (Nat → Int32) × (Nat → Int32) × (Nat → Int32) × (Nat → Int32) × (Nat → Int32)) (hf : f14_fire p1 p2 p3 p4 i_thrown i_isBegun i_lost i_outAt i_fireColumns i_fireRows i_fireOut i_wasFire a_now a_fuel a_burn a_wet a_heat a_fuelWas a_burnWas a_fireCell = some out) : GMet l yX14_fire cX14_fire 6 (some .int) (5) (126) G [.ref o, .int p1, .int p2, .int p3, .int p4] K I J X A B Q (some (.int out.1)) K (ov I [(1100, o, out.2.1), (1122, o, out.2.2.1), (1170, o, out.2.2.2.1), (1171, o, out.2.2.2.2.1), (1173, o, out.2.2.2.2.2.1), (1174, o, out.2.2.2.2.2.2.1), (1175, o, out.2.2.2.2.2.2.2.1), (1176, o, out.2.2.2.2.2.2.2.2.1)]) J X (ova A [((o + 2), out.2.2.2.2.2.2.2.2.2.1), ((o + 32), out.2.2.2.2.2.2.2.2.2.2.1), ((o + 33), out.2.2.2.2.2.2.2.2.2.2.2.1), ((o + 34), out.2.2.2.2.2.2.2.2.2.2.2.2.1), ((o + 35), out.2.2.2.2.2.2.2.2.2.2.2.2.2.1), ((o + 36), out.2.2.2.2.2.2.2.2.2.2.2.2.2.2.1), ((o + 37), out.2.2.2.2.2.2.2.2.2.2.2.2.2.2.2.1), ((o + 38), out.2.2.2.2.2.2.2.2.2.2.2.2.2.2.2.2)]) B Q 0 0 := by
  refine GMet.of (y := yX14_fire) rfl (Nat.le_of_ble_eq_true rfl) rfl ?_
  intro p e s m below meth c ls hx hb hr hml hlocks hts hown hname hG hR hl
  have hown : s.vm.findClass RX14 = some m.cls := hown
  have k_a_now : K (o + 2) = some (.inr (0, 800)) := (shM.2 1 _ rfl).1
  have k_a_fuel : K (o + 32) = some (.inr (0, 64)) := (shM.2 31 _ rfl).1
  have k_a_burn : K (o + 33) = some (.inr (0, 64)) := (shM.2 32 _ rfl).1
  have k_a_wet : K (o + 34) = some (.inr (0, 64)) := (shM.2 33 _ rfl).1
  have k_a_heat : K (o + 35) = some (.inr (0, 64)) := (shM.2 34 _ rfl).1
  have k_a_fuelWas : K (o + 36) = some (.inr (0, 3904)) := (shM.2 35 _ rfl).1
  have k_a_burnWas : K (o + 37) = some (.inr (0, 3904)) := (shM.2 36 _ rfl).1
  have k_a_fireCell : K (o + 38) = some (.inr (0, 192)) := (shM.2 37 _ rfl).1
  have hN_A : nda [(o + 2), (o + 32), (o + 33), (o + 34), (o + 35), (o + 36), (o + 37), (o + 38)] := nd_off o [2, 32, 33, 34, 35, 36, 37, 38] rfl
  have hR : RS G K (ov I [(1100, o, i_thrown), (1122, o, i_isBegun), (1170, o, i_lost), (1171, o, i_outAt), (1173, o, i_fireColumns), (1174, o, i_fireRows), (1175, o, i_fireOut), (1176, o, i_wasFire)]) J X (ova A [((o + 2), a_now), ((o + 32), a_fuel), ((o + 33), a_burn), ((o + 34), a_wet), ((o + 35), a_heat), ((o + 36), a_fuelWas), ((o + 37), a_burnWas), ((o + 38), a_fireCell)]) B Q s.heap := hR.to (Eq.symm (ov_sc e_i_thrown (ov_sc e_i_isBegun (ov_sc e_i_lost (ov_sc e_i_outAt (ov_sc e_i_fireColumns (ov_sc e_i_fireRows (ov_sc e_i_fireOut (ov_sc e_i_wasFire rfl))))))))) rfl rfl (Eq.symm (ova_sc e_a_now (ova_sc e_a_fuel (ova_sc e_a_burn (ova_sc e_a_wet (ova_sc e_a_heat (ova_sc e_a_fuelWas (ova_sc e_a_burnWas (ova_sc e_a_fireCell rfl))))))))) rfl rfl
  have hS : va_S (gA G) s.heap s.heap [] := va_S.rf
  have hend : ∀ (pc : Nat) (H : Heap) (locs : List Loc) (ls : Array Slot), decode cX14_fire pc = .ok (.ireturn, 1) → RS G K (ov I [(1100, o, out.2.1), (1122, o, out.2.2.1), (1170, o, out.2.2.2.1), (1171, o, out.2.2.2.2.1), (1173, o, out.2.2.2.2.2.1), (1174, o, out.2.2.2.2.2.2.1), (1175, o, out.2.2.2.2.2.2.2.1), (1176, o, out.2.2.2.2.2.2.2.2.1)]) J X (ova A [((o + 2), out.2.2.2.2.2.2.2.2.2.1), ((o + 32), out.2.2.2.2.2.2.2.2.2.2.1), ((o + 33), out.2.2.2.2.2.2.2.2.2.2.2.1), ((o + 34), out.2.2.2.2.2.2.2.2.2.2.2.2.1), ((o + 35), out.2.2.2.2.2.2.2.2.2.2.2.2.2.1), ((o + 36), out.2.2.2.2.2.2.2.2.2.2.2.2.2.2.1), ((o + 37), out.2.2.2.2.2.2.2.2.2.2.2.2.2.2.2.1), ((o + 38), out.2.2.2.2.2.2.2.2.2.2.2.2.2.2.2.2)]) B Q H → va_S (gA G) s.heap H locs → W p l e ({ frames := 5, cells := 0, slots := 0, locals := 126 } : Room) s m ([.ref o, .int p1, .int p2, .int p3, .int p4] : List Value).toArray below meth c H locs 0 0 (MQ below (gQ G (some (.int out.1)) K (ov I [(1100, o, out.2.1), (1122, o, out.2.2.1), (1170, o, out.2.2.2.1), (1171, o, out.2.2.2.2.1), (1173, o, out.2.2.2.2.2.1), (1174, o, out.2.2.2.2.2.2.1), (1175, o, out.2.2.2.2.2.2.2.1), (1176, o, out.2.2.2.2.2.2.2.2.1)]) J X (ova A [((o + 2), out.2.2.2.2.2.2.2.2.2.1), ((o + 32), out.2.2.2.2.2.2.2.2.2.2.1), ((o + 33), out.2.2.2.2.2.2.2.2.2.2.2.1), ((o + 34), out.2.2.2.2.2.2.2.2.2.2.2.2.1), ((o + 35), out.2.2.2.2.2.2.2.2.2.2.2.2.2.1), ((o + 36), out.2.2.2.2.2.2.2.2.2.2.2.2.2.2.1), ((o + 37), out.2.2.2.2.2.2.2.2.2.2.2.2.2.2.2.1), ((o + 38), out.2.2.2.2.2.2.2.2.2.2.2.2.2.2.2.2)]) B Q) ([.ref o, .int p1, .int p2, .int p3, .int p4] : List Value).toArray s 0 0 (gA G)) (F0 m pc ls [.int out.1]) := fun pc H locs ls hd hR hS => g_iret hx hb hr hlocks hG hR hS rfl hd
  generalize MQ below (gQ G (some (.int out.1)) K (ov I [(1100, o, out.2.1), (1122, o, out.2.2.1), (1170, o, out.2.2.2.1), (1171, o, out.2.2.2.2.1), (1173, o, out.2.2.2.2.2.1), (1174, o, out.2.2.2.2.2.2.1), (1175, o, out.2.2.2.2.2.2.2.1), (1176, o, out.2.2.2.2.2.2.2.2.1)]) J X (ova A [((o + 2), out.2.2.2.2.2.2.2.2.2.1), ((o + 32), out.2.2.2.2.2.2.2.2.2.2.1), ((o + 33), out.2.2.2.2.2.2.2.2.2.2.2.1), ((o + 34), out.2.2.2.2.2.2.2.2.2.2.2.2.1), ((o + 35), out.2.2.2.2.2.2.2.2.2.2.2.2.2.1), ((o + 36), out.2.2.2.2.2.2.2.2.2.2.2.2.2.2.1), ((o + 37), out.2.2.2.2.2.2.2.2.2.2.2.2.2.2.2.1), ((o + 38), out.2.2.2.2.2.2.2.2.2.2.2.2.2.2.2.2)]) B Q) ([.ref o, .int p1, .int p2, .int p3, .int p4] : List Value).toArray s 0 0 (gA G) = Z at hend ⊢
  generalize ([.ref o, .int p1, .int p2, .int p3, .int p4] : List Value).toArray = args at hts hend ⊢
  unfold f14_fire at hf
  refine lv_aload_n hx hb dX14_fire_0 rfl (lv_at hl 0 rfl) ?_
  refine lv_iconst (v := 0) hx hb dX14_fire_1 li_0 ?_
  refine n_puti (li' := [(1100, o, (0 : Int32)), (1122, o, i_isBegun), (1170, o, i_lost), (1171, o, i_outAt), (1173, o, i_fireColumns), (1174, o, i_fireRows), (1175, o, i_fireOut), (1176, o, i_wasFire)]) hx hb hts hown hG hR hS gPi_X14_148_11 shM.1 0 rfl rfl rfl dX14_fire_2 (fun H locs hR hS => ?_)
  refine lv_aload_n hx hb dX14_fire_5 rfl (lv_at hl 0 rfl) ?_
  obtain ⟨rr1, hrr1, hf⟩ := bind_s hf
  refine g0_cVv (rm := (1, 21)) (As := []) (rest := []) ⟨hx, hb, hml, hown, hts⟩ hG hR hS (m14_lay l G K (ov I [(1100, o, (0 : Int32)), (1122, o, i_isBegun), (1170, o, i_lost), (1171, o, i_outAt), (1173, o, i_fireColumns), (1174, o, i_fireRows), (1175, o, i_fireOut), (1176, o, i_wasFire)]) J X (ova A [((o + 2), a_now), ((o + 32), a_fuel), ((o + 33), a_burn), ((o + 34), a_wet), ((o + 35), a_heat), ((o + 36), a_fuelWas), ((o + 37), a_burnWas), ((o + 38), a_fireCell)]) B Q o shM i_isBegun a_now (ov_get 1 rfl rfl) (ova_get 0 hN_A rfl) rr1 hrr1) (cwV 0 hts gi_X14_232 rfl rfl rfl hd_X14_lay ⟨Nat.le_of_ble_eq_true rfl, Nat.le_of_ble_eq_true rfl⟩) shM.1 rfl rfl hl.1 (Nat.le_of_ble_eq_true rfl) dX14_fire_6 ⟨Nat.le_refl _, Nat.le_refl _⟩ rfl (fun H locs hR hS => ?_)
  have hR : RS G K (ov I [(1100, o, (0 : Int32)), (1122, o, rr1.1), (1170, o, i_lost), (1171, o, i_outAt), (1173, o, i_fireColumns), (1174, o, i_fireRows), (1175, o, i_fireOut), (1176, o, i_wasFire)]) J X (ova A [((o + 2), rr1.2), ((o + 32), a_fuel), ((o + 33), a_burn), ((o + 34), a_wet), ((o + 35), a_heat), ((o + 36), a_fuelWas), ((o + 37), a_burnWas), ((o + 38), a_fireCell)]) B Q H := hR.to (ov_merge (l := [(1100, o, (0 : Int32)), (1122, o, i_isBegun), (1170, o, i_lost), (1171, o, i_outAt), (1173, o, i_fireColumns), (1174, o, i_fireRows), (1175, o, i_fireOut), (1176, o, i_wasFire)]) rfl [1] [(1122, o, rr1.1)] rfl rfl) rfl rfl (ova_merge (l := [((o + 2), a_now), ((o + 32), a_fuel), ((o + 33), a_burn), ((o + 34), a_wet), ((o + 35), a_heat), ((o + 36), a_fuelWas), ((o + 37), a_burnWas), ((o + 38), a_fireCell)]) hN_A [0] [((o + 2), rr1.2)] rfl rfl) rfl rfl
  refine lv_iload_n hx hb dX14_fire_9 rfl (lv_at hl 1 rfl) ?_
  refine lv_iconst (v := 0) hx hb dX14_fire_10 li_0 ?_
  refine lv_bipush (v := 60) hx hb dX14_fire_11 lb_60 ?_
  obtain ⟨rr2, hrr2, hf⟩ := bind_s hf
  refine g0_cS (rm := (0, 0)) (As := [.int p1, .int (0 : Int32), .int (60 : Int32)]) (rest := []) ⟨hx, hb, hml, hown, hts⟩ hG hR hS (m14_isIn l G K (ov I [(1100, o, (0 : Int32)), (1122, o, rr1.1), (1170, o, i_lost), (1171, o, i_outAt), (1173, o, i_fireColumns), (1174, o, i_fireRows), (1175, o, i_fireOut), (1176, o, i_wasFire)]) J X (ova A [((o + 2), rr1.2), ((o + 32), a_fuel), ((o + 33), a_burn), ((o + 34), a_wet), ((o + 35), a_heat), ((o + 36), a_fuelWas), ((o + 37), a_burnWas), ((o + 38), a_fireCell)]) B Q p1 (0 : Int32) (60 : Int32) rr2 hrr2) (cwS 3 hts gi_X14_219 rfl rfl rfl hd_X14_isIn ⟨Nat.le_of_ble_eq_true rfl, Nat.le_of_ble_eq_true rfl⟩) rfl hl.1 (Nat.le_of_ble_eq_true rfl) dX14_fire_13 ⟨Nat.le_refl _, Nat.le_refl _⟩ rfl (fun H locs hR hS => ?_)
  refine lv_if_eq (tgt := 49) hx hb dX14_fire_16 (by decide) (fun c3 => ?_) (fun c3 => ?_)
  · have hf := ite_t c3 hf
    refine lv_iconst (v := -1) hx hb dX14_fire_49 li_m1 ?_
    obtain rfl := some_i hf
    exact hend _ _ _ _ dX14_fire_50 hR hS
  · have hf := ite_f c3 hf
    refine lv_iload_n hx hb dX14_fire_19 rfl (lv_at hl 2 rfl) ?_
    refine lv_iconst (v := 0) hx hb dX14_fire_20 li_0 ?_
    refine lv_sipush (v := 999) hx hb dX14_fire_21 ls_999 ?_
    obtain ⟨rr4, hrr4, hf⟩ := bind_s hf
    refine g0_cS (rm := (0, 0)) (As := [.int p2, .int (0 : Int32), .int (999 : Int32)]) (rest := []) ⟨hx, hb, hml, hown, hts⟩ hG hR hS (m14_isIn l G K (ov I [(1100, o, (0 : Int32)), (1122, o, rr1.1), (1170, o, i_lost), (1171, o, i_outAt), (1173, o, i_fireColumns), (1174, o, i_fireRows), (1175, o, i_fireOut), (1176, o, i_wasFire)]) J X (ova A [((o + 2), rr1.2), ((o + 32), a_fuel), ((o + 33), a_burn), ((o + 34), a_wet), ((o + 35), a_heat), ((o + 36), a_fuelWas), ((o + 37), a_burnWas), ((o + 38), a_fireCell)]) B Q p2 (0 : Int32) (999 : Int32) rr4 hrr4) (cwS 3 hts gi_X14_219 rfl rfl rfl hd_X14_isIn ⟨Nat.le_of_ble_eq_true rfl, Nat.le_of_ble_eq_true rfl⟩) rfl hl.1 (Nat.le_of_ble_eq_true rfl) dX14_fire_24 ⟨Nat.le_refl _, Nat.le_refl _⟩ rfl (fun H locs hR hS => ?_)
    refine lv_if_eq (tgt := 49) hx hb dX14_fire_27 (by decide) (fun c5 => ?_) (fun c5 => ?_)
    · have hf := ite_t c5 hf
      refine lv_iconst (v := -1) hx hb dX14_fire_49 li_m1 ?_
      obtain rfl := some_i hf
      exact hend _ _ _ _ dX14_fire_50 hR hS
    · have hf := ite_f c5 hf
      refine lv_aload_n hx hb dX14_fire_30 rfl (lv_at hl 0 rfl) ?_
      refine lv_iload_n hx hb dX14_fire_31 rfl (lv_at hl 3 rfl) ?_
      obtain ⟨rr6, hrr6, hf⟩ := bind_s hf
      refine g0_cV (rm := (1, 22)) (As := [.int p3]) (rest := []) ⟨hx, hb, hml, hown, hts⟩ hG hR hS (m14_isAim l G K (ov I [(1100, o, (0 : Int32)), (1122, o, rr1.1), (1170, o, i_lost), (1171, o, i_outAt), (1173, o, i_fireColumns), (1174, o, i_fireRows), (1175, o, i_fireOut), (1176, o, i_wasFire)]) J X (ova A [((o + 2), rr1.2), ((o + 32), a_fuel), ((o + 33), a_burn), ((o + 34), a_wet), ((o + 35), a_heat), ((o + 36), a_fuelWas), ((o + 37), a_burnWas), ((o + 38), a_fireCell)]) B Q o shM p3 rr1.2 (ova_get 0 hN_A rfl) rr6 hrr6) (cwV 1 hts gi_X14_448 rfl rfl rfl hd_X14_isAim ⟨Nat.le_of_ble_eq_true rfl, Nat.le_of_ble_eq_true rfl⟩) shM.1 rfl rfl hl.1 (Nat.le_of_ble_eq_true rfl) dX14_fire_32 ⟨Nat.le_refl _, Nat.le_refl _⟩ rfl (fun H locs hR hS => ?_)
      refine lv_if_eq (tgt := 49) hx hb dX14_fire_35 (by decide) (fun c7 => ?_) (fun c7 => ?_)
      · have hf := ite_t c7 hf
        refine lv_iconst (v := -1) hx hb dX14_fire_49 li_m1 ?_
        obtain rfl := some_i hf
        exact hend _ _ _ _ dX14_fire_50 hR hS
      · have hf := ite_f c7 hf
        refine lv_iload hx hb dX14_fire_38 (lv_at hl 4 rfl) ?_
        refine lv_iconst (v := 0) hx hb dX14_fire_40 li_0 ?_
        refine lv_bipush (v := 20) hx hb dX14_fire_41 lb_20 ?_
        obtain ⟨rr8, hrr8, hf⟩ := bind_s hf
        refine g0_cS (rm := (0, 0)) (As := [.int p4, .int (0 : Int32), .int (20 : Int32)]) (rest := []) ⟨hx, hb, hml, hown, hts⟩ hG hR hS (m14_isIn l G K (ov I [(1100, o, (0 : Int32)), (1122, o, rr1.1), (1170, o, i_lost), (1171, o, i_outAt), (1173, o, i_fireColumns), (1174, o, i_fireRows), (1175, o, i_fireOut), (1176, o, i_wasFire)]) J X (ova A [((o + 2), rr1.2), ((o + 32), a_fuel), ((o + 33), a_burn), ((o + 34), a_wet), ((o + 35), a_heat), ((o + 36), a_fuelWas), ((o + 37), a_burnWas), ((o + 38), a_fireCell)]) B Q p4 (0 : Int32) (20 : Int32) rr8 hrr8) (cwS 3 hts gi_X14_219 rfl rfl rfl hd_X14_isIn ⟨Nat.le_of_ble_eq_true rfl, Nat.le_of_ble_eq_true rfl⟩) rfl hl.1 (Nat.le_of_ble_eq_true rfl) dX14_fire_43 ⟨Nat.le_refl _, Nat.le_refl _⟩ rfl (fun H locs hR hS => ?_)
        refine lv_if_ne (tgt := 51) hx hb dX14_fire_46 (by decide) (fun c9 => ?_) (fun c9 => ?_)
        · have hf := ite_f c9 hf
          refine lv_aload_n hx hb dX14_fire_51 rfl (lv_at hl 0 rfl) ?_
          obtain ⟨rr10, hrr10, hf⟩ := bind_s hf
          refine g0_cVv (rm := (1, 20)) (As := []) (rest := []) ⟨hx, hb, hml, hown, hts⟩ hG hR hS (m14_light l G K (ov I [(1100, o, (0 : Int32)), (1122, o, rr1.1), (1170, o, i_lost), (1171, o, i_outAt), (1173, o, i_fireColumns), (1174, o, i_fireRows), (1175, o, i_fireOut), (1176, o, i_wasFire)]) J X (ova A [((o + 2), rr1.2), ((o + 32), a_fuel), ((o + 33), a_burn), ((o + 34), a_wet), ((o + 35), a_heat), ((o + 36), a_fuelWas), ((o + 37), a_burnWas), ((o + 38), a_fireCell)]) B Q o shM i_lost rr1.2 a_fuel a_burn a_wet (ov_get 2 rfl rfl) (ova_get 0 hN_A rfl) (ova_get 1 hN_A rfl) (ova_get 2 hN_A rfl) (ova_get 3 hN_A rfl) rr10 hrr10) (cwV 0 hts gi_X14_451 rfl rfl rfl hd_X14_light ⟨Nat.le_of_ble_eq_true rfl, Nat.le_of_ble_eq_true rfl⟩) shM.1 rfl rfl hl.1 (Nat.le_of_ble_eq_true rfl) dX14_fire_52 ⟨Nat.le_refl _, Nat.le_refl _⟩ rfl (fun H locs hR hS => ?_)
          have hR : RS G K (ov I [(1100, o, (0 : Int32)), (1122, o, rr1.1), (1170, o, rr10.1), (1171, o, i_outAt), (1173, o, i_fireColumns), (1174, o, i_fireRows), (1175, o, i_fireOut), (1176, o, i_wasFire)]) J X (ova A [((o + 2), rr1.2), ((o + 32), rr10.2.1), ((o + 33), rr10.2.2.1), ((o + 34), rr10.2.2.2), ((o + 35), a_heat), ((o + 36), a_fuelWas), ((o + 37), a_burnWas), ((o + 38), a_fireCell)]) B Q H := hR.to (ov_merge (l := [(1100, o, (0 : Int32)), (1122, o, rr1.1), (1170, o, i_lost), (1171, o, i_outAt), (1173, o, i_fireColumns), (1174, o, i_fireRows), (1175, o, i_fireOut), (1176, o, i_wasFire)]) rfl [2] [(1170, o, rr10.1)] rfl rfl) rfl rfl (ova_merge (l := [((o + 2), rr1.2), ((o + 32), a_fuel), ((o + 33), a_burn), ((o + 34), a_wet), ((o + 35), a_heat), ((o + 36), a_fuelWas), ((o + 37), a_burnWas), ((o + 38), a_fireCell)]) hN_A [0, 1, 2, 3] [((o + 2), rr1.2), ((o + 32), rr10.2.1), ((o + 33), rr10.2.2.1), ((o + 34), rr10.2.2.2)] rfl rfl) rfl rfl
          refine lv_aload_n hx hb dX14_fire_55 rfl (lv_at hl 0 rfl) ?_
          refine lv_iload_n hx hb dX14_fire_56 rfl (lv_at hl 1 rfl) ?_
          refine lv_iload_n hx hb dX14_fire_57 rfl (lv_at hl 2 rfl) ?_
          refine lv_iload_n hx hb dX14_fire_58 rfl (lv_at hl 3 rfl) ?_
          refine lv_iload hx hb dX14_fire_59 (lv_at hl 4 rfl) ?_
          obtain ⟨rr11, hrr11, hf⟩ := bind_s hf
          refine g0_cVv (rm := (4, 100)) (As := [.int p1, .int p2, .int p3, .int p4]) (rest := []) ⟨hx, hb, hml, hown, hts⟩ hG hR hS (m14_fires l G K (ov I [(1100, o, (0 : Int32)), (1122, o, rr1.1), (1170, o, rr10.1), (1171, o, i_outAt), (1173, o, i_fireColumns), (1174, o, i_fireRows), (1175, o, i_fireOut), (1176, o, i_wasFire)]) J X (ova A [((o + 2), rr1.2), ((o + 32), rr10.2.1), ((o + 33), rr10.2.2.1), ((o + 34), rr10.2.2.2), ((o + 35), a_heat), ((o + 36), a_fuelWas), ((o + 37), a_burnWas), ((o + 38), a_fireCell)]) B Q o shM p1 p2 p3 p4 rr10.1 i_outAt rr1.2 rr10.2.1 rr10.2.2.1 rr10.2.2.2 a_heat a_fuelWas a_burnWas (ov_get 2 rfl rfl) (ov_get 3 rfl rfl) (ova_get 0 hN_A rfl) (ova_get 1 hN_A rfl) (ova_get 2 hN_A rfl) (ova_get 3 hN_A rfl) (ova_get 4 hN_A rfl) (ova_get 5 hN_A rfl) (ova_get 6 hN_A rfl) rr11 hrr11) (cwV 4 hts gi_X14_454 rfl rfl rfl hd_X14_fires ⟨Nat.le_of_ble_eq_true rfl, Nat.le_of_ble_eq_true rfl⟩) shM.1 rfl rfl hl.1 (Nat.le_of_ble_eq_true rfl) dX14_fire_61 ⟨Nat.le_refl _, Nat.le_refl _⟩ rfl (fun H locs hR hS => ?_)
          have hR : RS G K (ov I [(1100, o, (0 : Int32)), (1122, o, rr1.1), (1170, o, rr11.1), (1171, o, rr11.2.1), (1173, o, i_fireColumns), (1174, o, i_fireRows), (1175, o, i_fireOut), (1176, o, i_wasFire)]) J X (ova A [((o + 2), rr1.2), ((o + 32), rr11.2.2.1), ((o + 33), rr11.2.2.2.1), ((o + 34), rr11.2.2.2.2.1), ((o + 35), rr11.2.2.2.2.2.1), ((o + 36), rr11.2.2.2.2.2.2.1), ((o + 37), rr11.2.2.2.2.2.2.2), ((o + 38), a_fireCell)]) B Q H := hR.to (ov_merge (l := [(1100, o, (0 : Int32)), (1122, o, rr1.1), (1170, o, rr10.1), (1171, o, i_outAt), (1173, o, i_fireColumns), (1174, o, i_fireRows), (1175, o, i_fireOut), (1176, o, i_wasFire)]) rfl [2, 3] [(1170, o, rr11.1), (1171, o, rr11.2.1)] rfl rfl) rfl rfl (ova_merge (l := [((o + 2), rr1.2), ((o + 32), rr10.2.1), ((o + 33), rr10.2.2.1), ((o + 34), rr10.2.2.2), ((o + 35), a_heat), ((o + 36), a_fuelWas), ((o + 37), a_burnWas), ((o + 38), a_fireCell)]) hN_A [0, 1, 2, 3, 4, 5, 6] [((o + 2), rr1.2), ((o + 32), rr11.2.2.1), ((o + 33), rr11.2.2.2.1), ((o + 34), rr11.2.2.2.2.1), ((o + 35), rr11.2.2.2.2.2.1), ((o + 36), rr11.2.2.2.2.2.2.1), ((o + 37), rr11.2.2.2.2.2.2.2)] rfl rfl) rfl rfl
          refine lv_aload_n hx hb dX14_fire_64 rfl (lv_at hl 0 rfl) ?_
          refine lv_iconst (v := 1) hx hb dX14_fire_65 li_1 ?_
          refine n_putz (li' := [(1100, o, (0 : Int32)), (1122, o, rr1.1), (1170, o, rr11.1), (1171, o, rr11.2.1), (1173, o, i_fireColumns), (1174, o, i_fireRows), (1175, o, i_fireOut), (1176, o, (1 : Int32))]) hx hb hts hown hG hR hS gPz_X14_458_11 shM.1 nz_1 7 rfl rfl rfl dX14_fire_66 (fun H locs hR hS => ?_)
          refine lv_aload_n hx hb dX14_fire_69 rfl (lv_at hl 0 rfl) ?_
          refine lv_aload_n hx hb dX14_fire_70 rfl (lv_at hl 0 rfl) ?_
          obtain ⟨rr12, hrr12, hf⟩ := bind_s hf
          refine g0_cV (rm := (0, 0)) (As := []) (rest := [.ref o]) ⟨hx, hb, hml, hown, hts⟩ hG hR hS (m14_columns l G K (ov I [(1100, o, (0 : Int32)), (1122, o, rr1.1), (1170, o, rr11.1), (1171, o, rr11.2.1), (1173, o, i_fireColumns), (1174, o, i_fireRows), (1175, o, i_fireOut), (1176, o, (1 : Int32))]) J X (ova A [((o + 2), rr1.2), ((o + 32), rr11.2.2.1), ((o + 33), rr11.2.2.2.1), ((o + 34), rr11.2.2.2.2.1), ((o + 35), rr11.2.2.2.2.2.1), ((o + 36), rr11.2.2.2.2.2.2.1), ((o + 37), rr11.2.2.2.2.2.2.2), ((o + 38), a_fireCell)]) B Q o shM rr1.2 (ova_get 0 hN_A rfl) rr12 hrr12) (cwV 0 hts gi_X14_298 rfl rfl rfl hd_X14_columns ⟨Nat.le_of_ble_eq_true rfl, Nat.le_of_ble_eq_true rfl⟩) shM.1 rfl rfl hl.1 (Nat.le_of_ble_eq_true rfl) dX14_fire_71 ⟨Nat.le_refl _, Nat.le_refl _⟩ rfl (fun H locs hR hS => ?_)
          refine n_puti (li' := [(1100, o, (0 : Int32)), (1122, o, rr1.1), (1170, o, rr11.1), (1171, o, rr11.2.1), (1173, o, rr12), (1174, o, i_fireRows), (1175, o, i_fireOut), (1176, o, (1 : Int32))]) hx hb hts hown hG hR hS gPi_X14_461_11 shM.1 4 rfl rfl rfl dX14_fire_74 (fun H locs hR hS => ?_)
          refine lv_aload_n hx hb dX14_fire_77 rfl (lv_at hl 0 rfl) ?_
          refine lv_aload_n hx hb dX14_fire_78 rfl (lv_at hl 0 rfl) ?_
          refine g_getr (b := (o + 2)) hx hb hts hown hG hR gFx_X14_13_11 shM.1 ((shM.2 1 _ rfl).2) dX14_fire_79 ?_
          refine lv_bipush (v := 10) hx hb dX14_fire_82 lb_10 ?_
          obtain ⟨c13, hf⟩ := gd_some hf
          obtain ⟨v14, ev14, hf⟩ := lt_some hf
          refine n_iald (x := rr1.2) hx hb hG hR k_a_now c13 (ova_get 0 hN_A rfl) ev14 dX14_fire_84 ?_
          refine n_puti (li' := [(1100, o, (0 : Int32)), (1122, o, rr1.1), (1170, o, rr11.1), (1171, o, rr11.2.1), (1173, o, rr12), (1174, o, v14), (1175, o, i_fireOut), (1176, o, (1 : Int32))]) hx hb hts hown hG hR hS gPi_X14_464_11 shM.1 5 rfl rfl rfl dX14_fire_85 (fun H locs hR hS => ?_)
          refine lv_aload_n hx hb dX14_fire_88 rfl (lv_at hl 0 rfl) ?_
          refine lv_aload_n hx hb dX14_fire_89 rfl (lv_at hl 0 rfl) ?_
          refine n_geti (v := rr11.2.1) hx hb hts hown hG hR gFi_X14_439_11 shM.1 (ov_get 3 rfl rfl) dX14_fire_90 ?_
          refine n_puti (li' := [(1100, o, (0 : Int32)), (1122, o, rr1.1), (1170, o, rr11.1), (1171, o, rr11.2.1), (1173, o, rr12), (1174, o, v14), (1175, o, rr11.2.1), (1176, o, (1 : Int32))]) hx hb hts hown hG hR hS gPi_X14_126_11 shM.1 6 rfl rfl rfl dX14_fire_93 (fun H locs hR hS => ?_)
          refine lv_iconst (v := 0) hx hb dX14_fire_96 li_0 ?_
          refine lv_istore (lv' := [(5, .int (0 : Int32)), (0, .ref o), (1, .int p1), (2, .int p2), (3, .int p3), (4, .int p4)]) hx hb dX14_fire_97 hl (by decide) rfl (fun ls hl => ?_)
          obtain ⟨rl15, hw15, hfo15⟩ := bind_s hf
          have hx15_0 : ∀ (x15_0 : (Nat → Int32)), f14_fire_e15_0 rr1 rr11 rr12 v14 x15_0 = some out → ∀ (H : Heap) (locs : List Loc) (ls : Array Slot), RS G K (ov I [(1100, o, (0 : Int32)), (1122, o, rr1.1), (1170, o, rr11.1), (1171, o, rr11.2.1), (1173, o, rr12), (1174, o, v14), (1175, o, rr11.2.1), (1176, o, (1 : Int32))]) J X (ova A [((o + 2), rr1.2), ((o + 32), rr11.2.2.1), ((o + 33), rr11.2.2.2.1), ((o + 34), rr11.2.2.2.2.1), ((o + 35), rr11.2.2.2.2.2.1), ((o + 36), rr11.2.2.2.2.2.2.1), ((o + 37), rr11.2.2.2.2.2.2.2), ((o + 38), x15_0)]) B Q H → va_S (gA G) s.heap H locs → lv_has ls 6 [(0, .ref o)] → W p l e ({ frames := 5, cells := 0, slots := 0, locals := 126 } : Room) s m args below meth c H locs 0 0 Z (F0 m 166 ls []) := by
            intro x15_0 hf H locs ls hR hS hl
            unfold f14_fire_e15_0 at hf
            refine lv_aload_n hx hb dX14_fire_166 rfl (lv_at hl 0 rfl) ?_
            refine n_geti (v := rr11.1) hx hb hts hown hG hR gFi_X14_423_11 shM.1 (ov_get 2 rfl rfl) dX14_fire_167 ?_
            obtain rfl := some_i hf
            exact hend _ _ _ _ dX14_fire_170 hR hS
          refine whl_walk (P := fun (s15 : Int32 × (Nat → Int32)) => ∀ (H : Heap) (locs : List Loc) (ls : Array Slot), RS G K (ov I [(1100, o, (0 : Int32)), (1122, o, rr1.1), (1170, o, rr11.1), (1171, o, rr11.2.1), (1173, o, rr12), (1174, o, v14), (1175, o, rr11.2.1), (1176, o, (1 : Int32))]) J X (ova A [((o + 2), rr1.2), ((o + 32), rr11.2.2.1), ((o + 33), rr11.2.2.2.1), ((o + 34), rr11.2.2.2.2.1), ((o + 35), rr11.2.2.2.2.2.1), ((o + 36), rr11.2.2.2.2.2.2.1), ((o + 37), rr11.2.2.2.2.2.2.2), ((o + 38), s15.2)]) B Q H → va_S (gA G) s.heap H locs → lv_has ls 6 [(0, .ref o), (5, .int s15.1)] → W p l e ({ frames := 5, cells := 0, slots := 0, locals := 126 } : Room) s m args below meth c H locs 0 0 Z (F0 m 99 ls [])) (r := rl15) ?_ FU _ hw15 _ _ _ hR hS (lv_sub hl [1, 0] rfl)
          clear hR hS hl hf
          intro s15 o15 hf hk15 H locs ls hR hS hl
          obtain ⟨w15_5, w15_a_fireCell⟩ := s15
          have hf : f14_fire_s15 rr1 rr11 w15_5 w15_a_fireCell = some o15 := hf
          have hR : RS G K (ov I [(1100, o, (0 : Int32)), (1122, o, rr1.1), (1170, o, rr11.1), (1171, o, rr11.2.1), (1173, o, rr12), (1174, o, v14), (1175, o, rr11.2.1), (1176, o, (1 : Int32))]) J X (ova A [((o + 2), rr1.2), ((o + 32), rr11.2.2.1), ((o + 33), rr11.2.2.2.1), ((o + 34), rr11.2.2.2.2.1), ((o + 35), rr11.2.2.2.2.2.1), ((o + 36), rr11.2.2.2.2.2.2.1), ((o + 37), rr11.2.2.2.2.2.2.2), ((o + 38), w15_a_fireCell)]) B Q H := hR
          have hl : lv_has ls 6 [(0, .ref o), (5, .int w15_5)] := hl
          unfold f14_fire_s15 at hf
          refine lv_iload hx hb dX14_fire_99 (lv_at hl 1 rfl) ?_
          refine lv_aload_n hx hb dX14_fire_101 rfl (lv_at hl 0 rfl) ?_
          obtain ⟨rr16, hrr16, hf⟩ := bind_s hf
          refine g0_cV (rm := (0, 0)) (As := []) (rest := [.int w15_5]) ⟨hx, hb, hml, hown, hts⟩ hG hR hS (m14_cells l G K (ov I [(1100, o, (0 : Int32)), (1122, o, rr1.1), (1170, o, rr11.1), (1171, o, rr11.2.1), (1173, o, rr12), (1174, o, v14), (1175, o, rr11.2.1), (1176, o, (1 : Int32))]) J X (ova A [((o + 2), rr1.2), ((o + 32), rr11.2.2.1), ((o + 33), rr11.2.2.2.1), ((o + 34), rr11.2.2.2.2.1), ((o + 35), rr11.2.2.2.2.2.1), ((o + 36), rr11.2.2.2.2.2.2.1), ((o + 37), rr11.2.2.2.2.2.2.2), ((o + 38), w15_a_fireCell)]) B Q o shM rr1.2 (ova_get 0 hN_A rfl) rr16 hrr16) (cwV 0 hts gi_X14_426 rfl rfl rfl hd_X14_cells ⟨Nat.le_of_ble_eq_true rfl, Nat.le_of_ble_eq_true rfl⟩) shM.1 rfl rfl hl.1 (Nat.le_of_ble_eq_true rfl) dX14_fire_102 ⟨Nat.le_refl _, Nat.le_refl _⟩ rfl (fun H locs hR hS => ?_)
          refine lv_icmp_ge (tgt := 166) hx hb dX14_fire_105 (by decide) (fun c17 => ?_) (fun c17 => ?_)
          · have hf := ite_t c17 hf
            obtain rfl := some_i hf
            replace hk15 : _ = rl15 := hk15
            subst hk15
            exact hx15_0 w15_a_fireCell hfo15 _ _ _ hR hS (lv_sub hl [0] rfl)
          · have hf := ite_f c17 hf
            refine lv_aload_n hx hb dX14_fire_108 rfl (lv_at hl 0 rfl) ?_
            refine g_getr (b := (o + 38)) hx hb hts hown hG hR gFx_X14_123_11 shM.1 ((shM.2 37 _ rfl).2) dX14_fire_109 ?_
            refine lv_iconst (v := 3) hx hb dX14_fire_112 li_3 ?_
            refine lv_iload hx hb dX14_fire_113 (lv_at hl 1 rfl) ?_
            obtain ⟨v18, ev18, hf⟩ := lt_some hf
            refine n_imul hx hb ev18 dX14_fire_115 ?_
            refine lv_aload_n hx hb dX14_fire_116 rfl (lv_at hl 0 rfl) ?_
            refine g_getr (b := (o + 32)) hx hb hts hown hG hR gFx_X14_105_11 shM.1 ((shM.2 31 _ rfl).2) dX14_fire_117 ?_
            refine lv_iload hx hb dX14_fire_120 (lv_at hl 1 rfl) ?_
            obtain ⟨c19, hf⟩ := gd_some hf
            obtain ⟨v20, ev20, hf⟩ := lt_some hf
            refine n_iald (x := rr11.2.2.1) hx hb hG hR k_a_fuel c19 (ova_get 1 hN_A rfl) ev20 dX14_fire_122 ?_
            obtain ⟨c21, hf⟩ := gd_some hf
            obtain ⟨u22, eu22, hf⟩ := lt_some hf
            refine n_iast (la' := [((o + 2), rr1.2), ((o + 32), rr11.2.2.1), ((o + 33), rr11.2.2.2.1), ((o + 34), rr11.2.2.2.2.1), ((o + 35), rr11.2.2.2.2.2.1), ((o + 36), rr11.2.2.2.2.2.2.1), ((o + 37), rr11.2.2.2.2.2.2.2), ((o + 38), u22)]) hx hb hG hR hS k_a_fireCell c21 hN_A 7 rfl eu22 rfl dX14_fire_123 (fun H locs hR hS => ?_)
            refine lv_aload_n hx hb dX14_fire_124 rfl (lv_at hl 0 rfl) ?_
            refine g_getr (b := (o + 38)) hx hb hts hown hG hR gFx_X14_123_11 shM.1 ((shM.2 37 _ rfl).2) dX14_fire_125 ?_
            refine lv_iconst (v := 3) hx hb dX14_fire_128 li_3 ?_
            refine lv_iload hx hb dX14_fire_129 (lv_at hl 1 rfl) ?_
            obtain ⟨v23, ev23, hf⟩ := lt_some hf
            refine n_imul hx hb ev23 dX14_fire_131 ?_
            refine lv_iconst (v := 1) hx hb dX14_fire_132 li_1 ?_
            obtain ⟨v24, ev24, hf⟩ := lt_some hf
            refine n_iadd hx hb ev24 dX14_fire_133 ?_
            refine lv_aload_n hx hb dX14_fire_134 rfl (lv_at hl 0 rfl) ?_
            refine g_getr (b := (o + 33)) hx hb hts hown hG hR gFx_X14_108_11 shM.1 ((shM.2 32 _ rfl).2) dX14_fire_135 ?_
            refine lv_iload hx hb dX14_fire_138 (lv_at hl 1 rfl) ?_
            obtain ⟨c25, hf⟩ := gd_some hf
            obtain ⟨v26, ev26, hf⟩ := lt_some hf
            refine n_iald (x := rr11.2.2.2.1) hx hb hG hR k_a_burn c25 (ova_get 2 hN_A rfl) ev26 dX14_fire_140 ?_
            obtain ⟨c27, hf⟩ := gd_some hf
            obtain ⟨u28, eu28, hf⟩ := lt_some hf
            refine n_iast (la' := [((o + 2), rr1.2), ((o + 32), rr11.2.2.1), ((o + 33), rr11.2.2.2.1), ((o + 34), rr11.2.2.2.2.1), ((o + 35), rr11.2.2.2.2.2.1), ((o + 36), rr11.2.2.2.2.2.2.1), ((o + 37), rr11.2.2.2.2.2.2.2), ((o + 38), u28)]) hx hb hG hR hS k_a_fireCell c27 hN_A 7 rfl eu28 rfl dX14_fire_141 (fun H locs hR hS => ?_)
            refine lv_aload_n hx hb dX14_fire_142 rfl (lv_at hl 0 rfl) ?_
            refine g_getr (b := (o + 38)) hx hb hts hown hG hR gFx_X14_123_11 shM.1 ((shM.2 37 _ rfl).2) dX14_fire_143 ?_
            refine lv_iconst (v := 3) hx hb dX14_fire_146 li_3 ?_
            refine lv_iload hx hb dX14_fire_147 (lv_at hl 1 rfl) ?_
            obtain ⟨v29, ev29, hf⟩ := lt_some hf
            refine n_imul hx hb ev29 dX14_fire_149 ?_
            refine lv_iconst (v := 2) hx hb dX14_fire_150 li_2 ?_
            obtain ⟨v30, ev30, hf⟩ := lt_some hf
            refine n_iadd hx hb ev30 dX14_fire_151 ?_
            refine lv_aload_n hx hb dX14_fire_152 rfl (lv_at hl 0 rfl) ?_
            refine g_getr (b := (o + 34)) hx hb hts hown hG hR gFx_X14_111_11 shM.1 ((shM.2 33 _ rfl).2) dX14_fire_153 ?_
            refine lv_iload hx hb dX14_fire_156 (lv_at hl 1 rfl) ?_
            obtain ⟨c31, hf⟩ := gd_some hf
            obtain ⟨v32, ev32, hf⟩ := lt_some hf
            refine n_iald (x := rr11.2.2.2.2.1) hx hb hG hR k_a_wet c31 (ova_get 3 hN_A rfl) ev32 dX14_fire_158 ?_
            obtain ⟨c33, hf⟩ := gd_some hf
            obtain ⟨u34, eu34, hf⟩ := lt_some hf
            refine n_iast (la' := [((o + 2), rr1.2), ((o + 32), rr11.2.2.1), ((o + 33), rr11.2.2.2.1), ((o + 34), rr11.2.2.2.2.1), ((o + 35), rr11.2.2.2.2.2.1), ((o + 36), rr11.2.2.2.2.2.2.1), ((o + 37), rr11.2.2.2.2.2.2.2), ((o + 38), u34)]) hx hb hG hR hS k_a_fireCell c33 hN_A 7 rfl eu34 rfl dX14_fire_159 (fun H locs hR hS => ?_)
            obtain ⟨v35, ev35, hf⟩ := lt_some hf
            refine lv_iinc (k := 1) (v := v35) (lv' := [(5, .int v35), (0, .ref o)]) hx hb dX14_fire_160 hl rfl (by rw [ev35]; rfl) (by decide) rfl (fun ls hl => ?_)
            refine lv_goto (tgt := 99) hx hb dX14_fire_163 (by decide) ?_
            obtain rfl := some_i hf
            exact hk15 _ _ _ hR hS (lv_sub hl [1, 0] rfl)
        · have hf := ite_t c9 hf
          refine lv_iconst (v := -1) hx hb dX14_fire_49 li_m1 ?_
          obtain rfl := some_i hf
          exact hend _ _ _ _ dX14_fire_50 hR hS
noncomputable def f14_teamTick_j22 (i_teamMany : Int32) (i_teamKind : Int32) (a_now : Nat → Int32) (a_team : Nat → Int32) (a_state : Nat → Int32) (v1 : Int32) (j22_i_well : Int32) (j22_i_empty : Int32) (j22_i_away : Int32) (j22_i_litresThrown : Int32) (j22_i_spilt : Int32) (j22_i_pailsThrown : Int32) (j22_i_drawn : Int32) (j22_a_rest : Nat → Int32) (j22_a_load : Nat → Int32) (j22_a_done : Nat → Int32) (j22_a_queue : Nat → Int32) (j22_a_waits : Nat → Int32) (j22_a_most : Nat → Int32) (j22_a_comes : Nat → Int32) : Option (Int32 × Int32 × Int32 × Int32 × Int32 × Int32 × Int32 × Int32 × (Nat → Int32) × (Nat → Int32) × (Nat → Int32) × (Nat → Int32) × (Nat → Int32) × (Nat → Int32) × (Nat → Int32) × (Nat → Int32)) :=
  if i_teamKind = (2 : Int32) then
    (f14_runTick i_teamMany j22_i_well j22_i_litresThrown j22_i_drawn a_now a_team j22_a_rest j22_a_load a_state).bind fun rr3 =>
    some (rr3.1, v1, j22_i_empty, j22_i_away, rr3.2.1, j22_i_spilt, j22_i_pailsThrown, rr3.2.2.1, rr3.2.2.2.1, rr3.2.2.2.2.1, j22_a_done, j22_a_queue, j22_a_waits, j22_a_most, j22_a_comes, rr3.2.2.2.2.2)
  else
    some (j22_i_well, v1, j22_i_empty, j22_i_away, j22_i_litresThrown, j22_i_spilt, j22_i_pailsThrown, j22_i_drawn, j22_a_rest, j22_a_load, j22_a_done, j22_a_queue, j22_a_waits, j22_a_most, j22_a_comes, a_state)

noncomputable def f14_teamTick (i_teamMany : Int32) (i_teamKind : Int32) (i_well : Int32) (i_tick : Int32) (i_empty : Int32) (i_away : Int32) (i_litresThrown : Int32) (i_spilt : Int32) (i_pailsThrown : Int32) (i_drawn : Int32) (a_now : Nat → Int32) (a_team : Nat → Int32) (a_rest : Nat → Int32) (a_load : Nat → Int32) (a_done : Nat → Int32) (a_queue : Nat → Int32) (a_waits : Nat → Int32) (a_most : Nat → Int32) (a_comes : Nat → Int32) (a_state : Nat → Int32) : Option (Int32 × Int32 × Int32 × Int32 × Int32 × Int32 × Int32 × Int32 × (Nat → Int32) × (Nat → Int32) × (Nat → Int32) × (Nat → Int32) × (Nat → Int32) × (Nat → Int32) × (Nat → Int32) × (Nat → Int32)) :=
  lt (i_tick + (1 : Int32)) fun v1 =>
  if i_teamKind = (1 : Int32) then
    (f14_rowTick i_teamMany i_well v1 i_empty i_away i_litresThrown i_spilt i_pailsThrown i_drawn a_now a_team a_rest a_load a_done a_queue a_waits a_most a_comes).bind fun rr5 =>
    f14_teamTick_j22 i_teamMany i_teamKind a_now a_team a_state v1 rr5.1 rr5.2.1 rr5.2.2.1 rr5.2.2.2.1 rr5.2.2.2.2.1 rr5.2.2.2.2.2.1 rr5.2.2.2.2.2.2.1 rr5.2.2.2.2.2.2.2.1 rr5.2.2.2.2.2.2.2.2.1 rr5.2.2.2.2.2.2.2.2.2.1 rr5.2.2.2.2.2.2.2.2.2.2.1 rr5.2.2.2.2.2.2.2.2.2.2.2.1 rr5.2.2.2.2.2.2.2.2.2.2.2.2.1 rr5.2.2.2.2.2.2.2.2.2.2.2.2.2
  else
    f14_teamTick_j22 i_teamMany i_teamKind a_now a_team a_state v1 i_well i_empty i_away i_litresThrown i_spilt i_pailsThrown i_drawn a_rest a_load a_done a_queue a_waits a_most a_comes
set_option maxHeartbeats 4000000 in
theorem m14_teamTick (l : Launch) (G : gG) (K : gK) (I : gI) (J : gJ) (X : gX) (A : gI) (B : gJ) (Q : gX) (o : Nat) (shM : Sh K X o 11 rows11)  (i_teamMany : Int32) (i_teamKind : Int32) (i_well : Int32) (i_tick : Int32) (i_empty : Int32) (i_away : Int32) (i_litresThrown : Int32) (i_spilt : Int32) (i_pailsThrown : Int32) (i_drawn : Int32) (a_now : Nat → Int32) (a_team : Nat → Int32) (a_rest : Nat → Int32) (a_load : Nat → Int32) (a_done : Nat → Int32) (a_queue : Nat → Int32) (a_waits : Nat → Int32) (a_most : Nat → Int32) (a_comes : Nat → Int32) (a_state : Nat → Int32) (e_i_teamMany : I 1133 o = i_teamMany) (e_i_teamKind : I 1134 o = i_teamKind) (e_i_well : I 1135 o = i_well) (e_i_tick : I 1136 o = i_tick) (e_i_empty : I 1137 o = i_empty) (e_i_away : I 1138 o = i_away) (e_i_litresThrown : I 1139 o = i_litresThrown) (e_i_spilt : I 1140 o = i_spilt) (e_i_pailsThrown : I 1141 o = i_pailsThrown) (e_i_drawn : I 1142 o = i_drawn) (e_a_now : A (o + 2) = a_now) (e_a_team : A (o + 10) = a_team) (e_a_rest : A (o + 11) = a_rest) (e_a_load : A (o + 12) = a_load) (e_a_done : A (o + 13) = a_done) (e_a_queue : A (o + 14) = a_queue) (e_a_waits : A (o + 15) = a_waits) (e_a_most : A (o + 16) = a_most) (e_a_comes : A (o + 17) = a_comes) (e_a_state : A (o + 18) = a_state) (out : Int32 × Int32 × Int32 × Int32 × Int32 × Int32 × Int32 × Int32 × (Nat → Int32) × (Nat → Int32) × (Nat → Int32) × (Nat → Int32) × (Nat → Int32) × (Nat → Int32) × (Nat → Int32) × (Nat → Int32)) (hf : f14_teamTick i_teamMany i_teamKind i_well i_tick i_empty i_away i_litresThrown i_spilt i_pailsThrown i_drawn a_now a_team a_rest a_load a_done a_queue a_waits a_most a_comes a_state = some out) : GMet l yX14_teamTick cX14_teamTick 1 none (5) (108) G [.ref o] K I J X A B Q none K (ov I [(1135, o, out.1), (1136, o, out.2.1), (1137, o, out.2.2.1), (1138, o, out.2.2.2.1), (1139, o, out.2.2.2.2.1), (1140, o, out.2.2.2.2.2.1), (1141, o, out.2.2.2.2.2.2.1), (1142, o, out.2.2.2.2.2.2.2.1)]) J X (ova A [((o + 2), a_now), ((o + 10), a_team), ((o + 11), out.2.2.2.2.2.2.2.2.1), ((o + 12), out.2.2.2.2.2.2.2.2.2.1), ((o + 13), out.2.2.2.2.2.2.2.2.2.2.1), ((o + 14), out.2.2.2.2.2.2.2.2.2.2.2.1), ((o + 15), out.2.2.2.2.2.2.2.2.2.2.2.2.1), ((o + 16), out.2.2.2.2.2.2.2.2.2.2.2.2.2.1), ((o + 17), out.2.2.2.2.2.2.2.2.2.2.2.2.2.2.1), ((o + 18), out.2.2.2.2.2.2.2.2.2.2.2.2.2.2.2)]) B Q 0 0 := by
  refine GMet.of (y := yX14_teamTick) rfl (Nat.le_of_ble_eq_true rfl) rfl ?_
  intro p e s m below meth c ls hx hb hr hml hlocks hts hown hname hG hR hl
  have hown : s.vm.findClass RX14 = some m.cls := hown
  have k_a_now : K (o + 2) = some (.inr (0, 800)) := (shM.2 1 _ rfl).1
  have k_a_team : K (o + 10) = some (.inr (0, 12)) := (shM.2 9 _ rfl).1
  have k_a_rest : K (o + 11) = some (.inr (0, 12)) := (shM.2 10 _ rfl).1
  have k_a_load : K (o + 12) = some (.inr (0, 12)) := (shM.2 11 _ rfl).1
  have k_a_done : K (o + 13) = some (.inr (0, 12)) := (shM.2 12 _ rfl).1
  have k_a_queue : K (o + 14) = some (.inr (0, 360)) := (shM.2 13 _ rfl).1
  have k_a_waits : K (o + 15) = some (.inr (0, 12)) := (shM.2 14 _ rfl).1
  have k_a_most : K (o + 16) = some (.inr (0, 12)) := (shM.2 15 _ rfl).1
  have k_a_comes : K (o + 17) = some (.inr (0, 30)) := (shM.2 16 _ rfl).1
  have k_a_state : K (o + 18) = some (.inr (0, 12)) := (shM.2 17 _ rfl).1
  have hN_A : nda [(o + 2), (o + 10), (o + 11), (o + 12), (o + 13), (o + 14), (o + 15), (o + 16), (o + 17), (o + 18)] := nd_off o [2, 10, 11, 12, 13, 14, 15, 16, 17, 18] rfl
  have hR : RS G K (ov I [(1135, o, i_well), (1136, o, i_tick), (1137, o, i_empty), (1138, o, i_away), (1139, o, i_litresThrown), (1140, o, i_spilt), (1141, o, i_pailsThrown), (1142, o, i_drawn)]) J X (ova A [((o + 2), a_now), ((o + 10), a_team), ((o + 11), a_rest), ((o + 12), a_load), ((o + 13), a_done), ((o + 14), a_queue), ((o + 15), a_waits), ((o + 16), a_most), ((o + 17), a_comes), ((o + 18), a_state)]) B Q s.heap := hR.to (Eq.symm (ov_sc e_i_well (ov_sc e_i_tick (ov_sc e_i_empty (ov_sc e_i_away (ov_sc e_i_litresThrown (ov_sc e_i_spilt (ov_sc e_i_pailsThrown (ov_sc e_i_drawn rfl))))))))) rfl rfl (Eq.symm (ova_sc e_a_now (ova_sc e_a_team (ova_sc e_a_rest (ova_sc e_a_load (ova_sc e_a_done (ova_sc e_a_queue (ova_sc e_a_waits (ova_sc e_a_most (ova_sc e_a_comes (ova_sc e_a_state rfl))))))))))) rfl rfl
  have hS : va_S (gA G) s.heap s.heap [] := va_S.rf
  have hend : ∀ (pc : Nat) (H : Heap) (locs : List Loc) (ls : Array Slot), decode cX14_teamTick pc = .ok (.return_, 1) → RS G K (ov I [(1135, o, out.1), (1136, o, out.2.1), (1137, o, out.2.2.1), (1138, o, out.2.2.2.1), (1139, o, out.2.2.2.2.1), (1140, o, out.2.2.2.2.2.1), (1141, o, out.2.2.2.2.2.2.1), (1142, o, out.2.2.2.2.2.2.2.1)]) J X (ova A [((o + 2), a_now), ((o + 10), a_team), ((o + 11), out.2.2.2.2.2.2.2.2.1), ((o + 12), out.2.2.2.2.2.2.2.2.2.1), ((o + 13), out.2.2.2.2.2.2.2.2.2.2.1), ((o + 14), out.2.2.2.2.2.2.2.2.2.2.2.1), ((o + 15), out.2.2.2.2.2.2.2.2.2.2.2.2.1), ((o + 16), out.2.2.2.2.2.2.2.2.2.2.2.2.2.1), ((o + 17), out.2.2.2.2.2.2.2.2.2.2.2.2.2.2.1), ((o + 18), out.2.2.2.2.2.2.2.2.2.2.2.2.2.2.2)]) B Q H → va_S (gA G) s.heap H locs → W p l e ({ frames := 5, cells := 0, slots := 0, locals := 108 } : Room) s m ([.ref o] : List Value).toArray below meth c H locs 0 0 (MQ below (gQ G none K (ov I [(1135, o, out.1), (1136, o, out.2.1), (1137, o, out.2.2.1), (1138, o, out.2.2.2.1), (1139, o, out.2.2.2.2.1), (1140, o, out.2.2.2.2.2.1), (1141, o, out.2.2.2.2.2.2.1), (1142, o, out.2.2.2.2.2.2.2.1)]) J X (ova A [((o + 2), a_now), ((o + 10), a_team), ((o + 11), out.2.2.2.2.2.2.2.2.1), ((o + 12), out.2.2.2.2.2.2.2.2.2.1), ((o + 13), out.2.2.2.2.2.2.2.2.2.2.1), ((o + 14), out.2.2.2.2.2.2.2.2.2.2.2.1), ((o + 15), out.2.2.2.2.2.2.2.2.2.2.2.2.1), ((o + 16), out.2.2.2.2.2.2.2.2.2.2.2.2.2.1), ((o + 17), out.2.2.2.2.2.2.2.2.2.2.2.2.2.2.1), ((o + 18), out.2.2.2.2.2.2.2.2.2.2.2.2.2.2.2)]) B Q) ([.ref o] : List Value).toArray s 0 0 (gA G)) (F0 m pc ls []) := fun pc H locs ls hd hR hS => g_vret hx hb hr hlocks hG hR hS rfl hd
  generalize MQ below (gQ G none K (ov I [(1135, o, out.1), (1136, o, out.2.1), (1137, o, out.2.2.1), (1138, o, out.2.2.2.1), (1139, o, out.2.2.2.2.1), (1140, o, out.2.2.2.2.2.1), (1141, o, out.2.2.2.2.2.2.1), (1142, o, out.2.2.2.2.2.2.2.1)]) J X (ova A [((o + 2), a_now), ((o + 10), a_team), ((o + 11), out.2.2.2.2.2.2.2.2.1), ((o + 12), out.2.2.2.2.2.2.2.2.2.1), ((o + 13), out.2.2.2.2.2.2.2.2.2.2.1), ((o + 14), out.2.2.2.2.2.2.2.2.2.2.2.1), ((o + 15), out.2.2.2.2.2.2.2.2.2.2.2.2.1), ((o + 16), out.2.2.2.2.2.2.2.2.2.2.2.2.2.1), ((o + 17), out.2.2.2.2.2.2.2.2.2.2.2.2.2.2.1), ((o + 18), out.2.2.2.2.2.2.2.2.2.2.2.2.2.2.2)]) B Q) ([.ref o] : List Value).toArray s 0 0 (gA G) = Z at hend ⊢
  generalize ([.ref o] : List Value).toArray = args at hts hend ⊢
  unfold f14_teamTick at hf
  refine lv_aload_n hx hb dX14_teamTick_0 rfl (lv_at hl 0 rfl) ?_
  refine lv_dup hx hb dX14_teamTick_1 rfl ?_
  refine n_geti (v := i_tick) hx hb hts hown hG hR gFi_X14_307_11 shM.1 (ov_get 1 rfl rfl) dX14_teamTick_2 ?_
  refine lv_iconst (v := 1) hx hb dX14_teamTick_5 li_1 ?_
  obtain ⟨v1, ev1, hf⟩ := lt_some hf
  refine n_iadd hx hb ev1 dX14_teamTick_6 ?_
  refine n_puti (li' := [(1135, o, i_well), (1136, o, v1), (1137, o, i_empty), (1138, o, i_away), (1139, o, i_litresThrown), (1140, o, i_spilt), (1141, o, i_pailsThrown), (1142, o, i_drawn)]) hx hb hts hown hG hR hS gPi_X14_307_11 shM.1 1 rfl rfl rfl dX14_teamTick_7 (fun H locs hR hS => ?_)
  refine lv_aload_n hx hb dX14_teamTick_10 rfl (lv_at hl 0 rfl) ?_
  refine n_geti (v := i_teamKind) hx hb hts hown hG hR gFi_X14_301_11 shM.1 ((congrFun (ov_no rfl) _).trans e_i_teamKind) dX14_teamTick_11 ?_
  refine lv_iconst (v := 1) hx hb dX14_teamTick_14 li_1 ?_
  have hj22 : ∀ (j22_i_well : Int32) (j22_i_empty : Int32) (j22_i_away : Int32) (j22_i_litresThrown : Int32) (j22_i_spilt : Int32) (j22_i_pailsThrown : Int32) (j22_i_drawn : Int32) (j22_a_rest : Nat → Int32) (j22_a_load : Nat → Int32) (j22_a_done : Nat → Int32) (j22_a_queue : Nat → Int32) (j22_a_waits : Nat → Int32) (j22_a_most : Nat → Int32) (j22_a_comes : Nat → Int32), f14_teamTick_j22 i_teamMany i_teamKind a_now a_team a_state v1 j22_i_well j22_i_empty j22_i_away j22_i_litresThrown j22_i_spilt j22_i_pailsThrown j22_i_drawn j22_a_rest j22_a_load j22_a_done j22_a_queue j22_a_waits j22_a_most j22_a_comes = some out → ∀ (H : Heap) (locs : List Loc) (ls : Array Slot), RS G K (ov I [(1135, o, j22_i_well), (1136, o, v1), (1137, o, j22_i_empty), (1138, o, j22_i_away), (1139, o, j22_i_litresThrown), (1140, o, j22_i_spilt), (1141, o, j22_i_pailsThrown), (1142, o, j22_i_drawn)]) J X (ova A [((o + 2), a_now), ((o + 10), a_team), ((o + 11), j22_a_rest), ((o + 12), j22_a_load), ((o + 13), j22_a_done), ((o + 14), j22_a_queue), ((o + 15), j22_a_waits), ((o + 16), j22_a_most), ((o + 17), j22_a_comes), ((o + 18), a_state)]) B Q H → va_S (gA G) s.heap H locs → lv_has ls 1 [(0, .ref o)] → W p l e ({ frames := 5, cells := 0, slots := 0, locals := 108 } : Room) s m args below meth c H locs 0 0 Z (F0 m 22 ls []) := by
    intro j22_i_well j22_i_empty j22_i_away j22_i_litresThrown j22_i_spilt j22_i_pailsThrown j22_i_drawn j22_a_rest j22_a_load j22_a_done j22_a_queue j22_a_waits j22_a_most j22_a_comes hf H locs ls hR hS hl
    unfold f14_teamTick_j22 at hf
    refine lv_aload_n hx hb dX14_teamTick_22 rfl (lv_at hl 0 rfl) ?_
    refine n_geti (v := i_teamKind) hx hb hts hown hG hR gFi_X14_301_11 shM.1 ((congrFun (ov_no rfl) _).trans e_i_teamKind) dX14_teamTick_23 ?_
    refine lv_iconst (v := 2) hx hb dX14_teamTick_26 li_2 ?_
    refine lv_icmp_ne (tgt := 34) hx hb dX14_teamTick_27 (by decide) (fun c2 => ?_) (fun c2 => ?_)
    · have hf := ite_f c2 hf
      obtain rfl := some_i hf
      exact hend _ _ _ _ dX14_teamTick_34 hR hS
    · have hf := ite_t c2 hf
      refine lv_aload_n hx hb dX14_teamTick_30 rfl (lv_at hl 0 rfl) ?_
      obtain ⟨rr3, hrr3, hf⟩ := bind_s hf
      refine g0_cVv (rm := (1, 22)) (As := []) (rest := []) ⟨hx, hb, hml, hown, hts⟩ hG hR hS (m14_runTick l G K (ov I [(1135, o, j22_i_well), (1136, o, v1), (1137, o, j22_i_empty), (1138, o, j22_i_away), (1139, o, j22_i_litresThrown), (1140, o, j22_i_spilt), (1141, o, j22_i_pailsThrown), (1142, o, j22_i_drawn)]) J X (ova A [((o + 2), a_now), ((o + 10), a_team), ((o + 11), j22_a_rest), ((o + 12), j22_a_load), ((o + 13), j22_a_done), ((o + 14), j22_a_queue), ((o + 15), j22_a_waits), ((o + 16), j22_a_most), ((o + 17), j22_a_comes), ((o + 18), a_state)]) B Q o shM i_teamMany j22_i_well j22_i_litresThrown j22_i_drawn a_now a_team j22_a_rest j22_a_load a_state ((congrFun (ov_no rfl) _).trans e_i_teamMany) (ov_get 0 rfl rfl) (ov_get 4 rfl rfl) (ov_get 7 rfl rfl) (ova_get 0 hN_A rfl) (ova_get 1 hN_A rfl) (ova_get 2 hN_A rfl) (ova_get 3 hN_A rfl) (ova_get 9 hN_A rfl) rr3 hrr3) (cwV 0 hts gi_X14_363 rfl rfl rfl hd_X14_runTick ⟨Nat.le_of_ble_eq_true rfl, Nat.le_of_ble_eq_true rfl⟩) shM.1 rfl rfl hl.1 (Nat.le_of_ble_eq_true rfl) dX14_teamTick_31 ⟨Nat.le_refl _, Nat.le_refl _⟩ rfl (fun H locs hR hS => ?_)
      have hR : RS G K (ov I [(1135, o, rr3.1), (1136, o, v1), (1137, o, j22_i_empty), (1138, o, j22_i_away), (1139, o, rr3.2.1), (1140, o, j22_i_spilt), (1141, o, j22_i_pailsThrown), (1142, o, rr3.2.2.1)]) J X (ova A [((o + 2), a_now), ((o + 10), a_team), ((o + 11), rr3.2.2.2.1), ((o + 12), rr3.2.2.2.2.1), ((o + 13), j22_a_done), ((o + 14), j22_a_queue), ((o + 15), j22_a_waits), ((o + 16), j22_a_most), ((o + 17), j22_a_comes), ((o + 18), rr3.2.2.2.2.2)]) B Q H := hR.to (ov_merge (l := [(1135, o, j22_i_well), (1136, o, v1), (1137, o, j22_i_empty), (1138, o, j22_i_away), (1139, o, j22_i_litresThrown), (1140, o, j22_i_spilt), (1141, o, j22_i_pailsThrown), (1142, o, j22_i_drawn)]) rfl [0, 4, 7] [(1135, o, rr3.1), (1139, o, rr3.2.1), (1142, o, rr3.2.2.1)] rfl rfl) rfl rfl (ova_merge (l := [((o + 2), a_now), ((o + 10), a_team), ((o + 11), j22_a_rest), ((o + 12), j22_a_load), ((o + 13), j22_a_done), ((o + 14), j22_a_queue), ((o + 15), j22_a_waits), ((o + 16), j22_a_most), ((o + 17), j22_a_comes), ((o + 18), a_state)]) hN_A [0, 1, 2, 3, 9] [((o + 2), a_now), ((o + 10), a_team), ((o + 11), rr3.2.2.2.1), ((o + 12), rr3.2.2.2.2.1), ((o + 18), rr3.2.2.2.2.2)] rfl rfl) rfl rfl
      obtain rfl := some_i hf
      exact hend _ _ _ _ dX14_teamTick_34 hR hS
  refine lv_icmp_ne (tgt := 22) hx hb dX14_teamTick_15 (by decide) (fun c4 => ?_) (fun c4 => ?_)
  · have hf := ite_f c4 hf
    exact hj22 i_well i_empty i_away i_litresThrown i_spilt i_pailsThrown i_drawn a_rest a_load a_done a_queue a_waits a_most a_comes hf _ _ _ hR hS (lv_sub hl [0] rfl)
  · have hf := ite_t c4 hf
    refine lv_aload_n hx hb dX14_teamTick_18 rfl (lv_at hl 0 rfl) ?_
    obtain ⟨rr5, hrr5, hf⟩ := bind_s hf
    refine g0_cVv (rm := (4, 87)) (As := []) (rest := []) ⟨hx, hb, hml, hown, hts⟩ hG hR hS (m14_rowTick l G K (ov I [(1135, o, i_well), (1136, o, v1), (1137, o, i_empty), (1138, o, i_away), (1139, o, i_litresThrown), (1140, o, i_spilt), (1141, o, i_pailsThrown), (1142, o, i_drawn)]) J X (ova A [((o + 2), a_now), ((o + 10), a_team), ((o + 11), a_rest), ((o + 12), a_load), ((o + 13), a_done), ((o + 14), a_queue), ((o + 15), a_waits), ((o + 16), a_most), ((o + 17), a_comes), ((o + 18), a_state)]) B Q o shM i_teamMany i_well v1 i_empty i_away i_litresThrown i_spilt i_pailsThrown i_drawn a_now a_team a_rest a_load a_done a_queue a_waits a_most a_comes ((congrFun (ov_no rfl) _).trans e_i_teamMany) (ov_get 0 rfl rfl) (ov_get 1 rfl rfl) (ov_get 2 rfl rfl) (ov_get 3 rfl rfl) (ov_get 4 rfl rfl) (ov_get 5 rfl rfl) (ov_get 6 rfl rfl) (ov_get 7 rfl rfl) (ova_get 0 hN_A rfl) (ova_get 1 hN_A rfl) (ova_get 2 hN_A rfl) (ova_get 3 hN_A rfl) (ova_get 4 hN_A rfl) (ova_get 5 hN_A rfl) (ova_get 6 hN_A rfl) (ova_get 7 hN_A rfl) (ova_get 8 hN_A rfl) rr5 hrr5) (cwV 0 hts gi_X14_360 rfl rfl rfl hd_X14_rowTick ⟨Nat.le_of_ble_eq_true rfl, Nat.le_of_ble_eq_true rfl⟩) shM.1 rfl rfl hl.1 (Nat.le_of_ble_eq_true rfl) dX14_teamTick_19 ⟨Nat.le_refl _, Nat.le_refl _⟩ rfl (fun H locs hR hS => ?_)
    have hR : RS G K (ov I [(1135, o, rr5.1), (1136, o, v1), (1137, o, rr5.2.1), (1138, o, rr5.2.2.1), (1139, o, rr5.2.2.2.1), (1140, o, rr5.2.2.2.2.1), (1141, o, rr5.2.2.2.2.2.1), (1142, o, rr5.2.2.2.2.2.2.1)]) J X (ova A [((o + 2), a_now), ((o + 10), a_team), ((o + 11), rr5.2.2.2.2.2.2.2.1), ((o + 12), rr5.2.2.2.2.2.2.2.2.1), ((o + 13), rr5.2.2.2.2.2.2.2.2.2.1), ((o + 14), rr5.2.2.2.2.2.2.2.2.2.2.1), ((o + 15), rr5.2.2.2.2.2.2.2.2.2.2.2.1), ((o + 16), rr5.2.2.2.2.2.2.2.2.2.2.2.2.1), ((o + 17), rr5.2.2.2.2.2.2.2.2.2.2.2.2.2), ((o + 18), a_state)]) B Q H := hR.to (ov_merge (l := [(1135, o, i_well), (1136, o, v1), (1137, o, i_empty), (1138, o, i_away), (1139, o, i_litresThrown), (1140, o, i_spilt), (1141, o, i_pailsThrown), (1142, o, i_drawn)]) rfl [0, 2, 3, 4, 5, 6, 7] [(1135, o, rr5.1), (1137, o, rr5.2.1), (1138, o, rr5.2.2.1), (1139, o, rr5.2.2.2.1), (1140, o, rr5.2.2.2.2.1), (1141, o, rr5.2.2.2.2.2.1), (1142, o, rr5.2.2.2.2.2.2.1)] rfl rfl) rfl rfl (ova_merge (l := [((o + 2), a_now), ((o + 10), a_team), ((o + 11), a_rest), ((o + 12), a_load), ((o + 13), a_done), ((o + 14), a_queue), ((o + 15), a_waits), ((o + 16), a_most), ((o + 17), a_comes), ((o + 18), a_state)]) hN_A [0, 1, 2, 3, 4, 5, 6, 7, 8] [((o + 2), a_now), ((o + 10), a_team), ((o + 11), rr5.2.2.2.2.2.2.2.1), ((o + 12), rr5.2.2.2.2.2.2.2.2.1), ((o + 13), rr5.2.2.2.2.2.2.2.2.2.1), ((o + 14), rr5.2.2.2.2.2.2.2.2.2.2.1), ((o + 15), rr5.2.2.2.2.2.2.2.2.2.2.2.1), ((o + 16), rr5.2.2.2.2.2.2.2.2.2.2.2.2.1), ((o + 17), rr5.2.2.2.2.2.2.2.2.2.2.2.2.2)] rfl rfl) rfl rfl
    exact hj22 rr5.1 rr5.2.1 rr5.2.2.1 rr5.2.2.2.1 rr5.2.2.2.2.1 rr5.2.2.2.2.2.1 rr5.2.2.2.2.2.2.1 rr5.2.2.2.2.2.2.2.1 rr5.2.2.2.2.2.2.2.2.1 rr5.2.2.2.2.2.2.2.2.2.1 rr5.2.2.2.2.2.2.2.2.2.2.1 rr5.2.2.2.2.2.2.2.2.2.2.2.1 rr5.2.2.2.2.2.2.2.2.2.2.2.2.1 rr5.2.2.2.2.2.2.2.2.2.2.2.2.2 hf _ _ _ hR hS (lv_sub hl [0] rfl)
