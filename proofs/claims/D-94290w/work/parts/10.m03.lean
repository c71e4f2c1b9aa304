/-! the walks of PailRowModel (printed by tools) 3 -/
set_option maxRecDepth 100000
noncomputable def f14_readCompare_j33 (p1 : Int32) (i_size : Int32) (i_limit : Int32) (i_to : Int32) (i_from : Int32) (i_kind : Int32) (i_number : Int32) (i_sign : Int32) (i_told : Int32) (i_nodes : Int32) (i_top : Int32) (j_word : Int64) (a_tape : Nat → Int32) (a_node : Nat → Int32) (j33_i_fault : Int32) (j33_i_at : Int32) : Option (Int32 × Int32 × Int32 × Int32 × Int32 × Int32 × Int32 × Int32 × Int32 × Int32 × Int32 × Int64 × (Nat → Int32)) :=
  (f14_go i_size i_limit i_to i_from i_kind i_number i_sign j_word a_tape).bind fun rr2 =>
  (f14_readNumber (0 : Int32) (99999999 : Int32) i_size i_limit rr2.1 rr2.2.1 rr2.2.2.1 rr2.2.2.2.1 rr2.2.2.2.2.1 j33_i_fault j33_i_at i_told rr2.2.2.2.2.2 a_tape).bind fun rr3 =>
  if rr3.1 = 0 then
    some ((0 : Int32), rr3.2.1, rr3.2.2.1, rr3.2.2.2.1, rr3.2.2.2.2.1, rr3.2.2.2.2.2.1, rr3.2.2.2.2.2.2.1, rr3.2.2.2.2.2.2.2.1, rr3.2.2.2.2.2.2.2.2.1, i_nodes, i_top, rr3.2.2.2.2.2.2.2.2.2, a_node)
  else
    lt (p1 - (24 : Int32)) fun v5 =>
    (f14_lays (5 : Int32) v5 rr3.2.2.2.2.2.2.2.2.1 i_sign i_nodes a_node).bind fun rr6 =>
    some ((1 : Int32), rr3.2.1, rr3.2.2.1, rr3.2.2.2.1, rr3.2.2.2.2.1, rr3.2.2.2.2.2.1, rr3.2.2.2.2.2.2.1, rr3.2.2.2.2.2.2.2.1, rr3.2.2.2.2.2.2.2.2.1, rr6.2.1, rr6.1, rr3.2.2.2.2.2.2.2.2.2, rr6.2.2)

noncomputable def f14_readCompare (p1 : Int32) (i_size : Int32) (i_limit : Int32) (i_to : Int32) (i_from : Int32) (i_kind : Int32) (i_number : Int32) (i_sign : Int32) (i_fault : Int32) (i_at : Int32) (i_told : Int32) (i_nodes : Int32) (i_top : Int32) (j_word : Int64) (a_tape : Nat → Int32) (a_node : Nat → Int32) : Option (Int32 × Int32 × Int32 × Int32 × Int32 × Int32 × Int32 × Int32 × Int32 × Int32 × Int32 × Int64 × (Nat → Int32)) :=
  (f14_isSign (60 : Int32) i_kind i_sign).bind fun rr1 =>
  if rr1 = 0 then
    (f14_isSign (61 : Int32) i_kind i_sign).bind fun rr8 =>
    if rr8 = 0 then
      (f14_isSign (62 : Int32) i_kind i_sign).bind fun rr10 =>
      if rr10 = 0 then
        (f14_bad (1 : Int32) i_from i_kind i_fault i_at).bind fun rr12 =>
        gd (rr12.1 &&& 1 = rr12.1) <|
        some (rr12.1, i_to, i_from, i_kind, i_number, i_sign, rr12.2.1, rr12.2.2, i_told, i_nodes, i_top, j_word, a_node)
      else
        f14_readCompare_j33 p1 i_size i_limit i_to i_from i_kind i_number i_sign i_told i_nodes i_top j_word a_tape a_node i_fault i_at
    else
      f14_readCompare_j33 p1 i_size i_limit i_to i_from i_kind i_number i_sign i_told i_nodes i_top j_word a_tape a_node i_fault i_at
  else
    f14_readCompare_j33 p1 i_size i_limit i_to i_from i_kind i_number i_sign i_told i_nodes i_top j_word a_tape a_node i_fault i_at
set_option maxHeartbeats 4000000 in
theorem m14_readCompare (l : Launch) (G : gG) (K : gK) (I : gI) (J : gJ) (X : gX) (A : gI) (B : gJ) (Q : gX) (o : Nat) (shM : Sh K X o 11 rows11) (p1 : Int32) (i_size : Int32) (i_limit : Int32) (i_to : Int32) (i_from : Int32) (i_kind : Int32) (i_number : Int32) (i_sign : Int32) (i_fault : Int32) (i_at : Int32) (i_told : Int32) (i_nodes : Int32) (i_top : Int32) (j_word : Int64) (a_tape : Nat → Int32) (a_node : Nat → Int32) (e_i_size : I 1103 o = i_size) (e_i_limit : I 1104 o = i_limit) (e_i_to : I 1105 o = i_to) (e_i_from : I 1106 o = i_from) (e_i_kind : I 1107 o = i_kind) (e_i_number : I 1108 o = i_number) (e_i_sign : I 1109 o = i_sign) (e_i_fault : I 1110 o = i_fault) (e_i_at : I 1111 o = i_at) (e_i_told : I 1113 o = i_told) (e_i_nodes : I 1187 o = i_nodes) (e_i_top : I 1190 o = i_top) (e_j_word : J 1112 o = j_word) (e_a_tape : A (o + 1) = a_tape) (e_a_node : A (o + 44) = a_node) (out : Int32 × Int32 × Int32 × Int32 × Int32 × Int32 × Int32 × Int32 × Int32 × Int32 × Int32 × Int64 × (Nat → Int32)) (hf : f14_readCompare p1 i_size i_limit i_to i_from i_kind i_number i_sign i_fault i_at i_told i_nodes i_top j_word a_tape a_node = some out) : GMet l yX14_readCompare cX14_readCompare 3 (some .boolean) (3) (67) G [.ref o, .int p1] K I J X A B Q (some (.int out.1)) K (ov I [(1105, o, out.2.1), (1106, o, out.2.2.1), (1107, o, out.2.2.2.1), (1108, o, out.2.2.2.2.1), (1109, o, out.2.2.2.2.2.1), (1110, o, out.2.2.2.2.2.2.1), (1111, o, out.2.2.2.2.2.2.2.1), (1113, o, out.2.2.2.2.2.2.2.2.1), (1187, o, out.2.2.2.2.2.2.2.2.2.1), (1190, o, out.2.2.2.2.2.2.2.2.2.2.1)]) (ov J [(1112, o, out.2.2.2.2.2.2.2.2.2.2.2.1)]) X (ova A [((o + 1), a_tape), ((o + 44), out.2.2.2.2.2.2.2.2.2.2.2.2)]) B Q 0 0 := by
  refine GMet.of (y := yX14_readCompare) rfl (Nat.le_of_ble_eq_true rfl) rfl ?_
  intro p e s m below meth c ls hx hb hr hml hlocks hts hown hname hG hR hl
  have hown : s.vm.findClass RX14 = some m.cls := hown
  have k_a_tape : K (o + 1) = some (.inr (0, 740)) := (shM.2 0 _ rfl).1
  have k_a_node : K (o + 44) = some (.inr (0, 240)) := (shM.2 43 _ rfl).1
  have hN_A : nda [(o + 1), (o + 44)] := nd_off o [1, 44] rfl
  have hR : RS G K (ov I [(1105, o, i_to), (1106, o, i_from), (1107, o, i_kind), (1108, o, i_number), (1109, o, i_sign), (1110, o, i_fault), (1111, o, i_at), (1113, o, i_told), (1187, o, i_nodes), (1190, o, i_top)]) (ov J [(1112, o, j_word)]) X (ova A [((o + 1), a_tape), ((o + 44), a_node)]) B Q s.heap := hR.to (Eq.symm (ov_sc e_i_to (ov_sc e_i_from (ov_sc e_i_kind (ov_sc e_i_number (ov_sc e_i_sign (ov_sc e_i_fault (ov_sc e_i_at (ov_sc e_i_told (ov_sc e_i_nodes (ov_sc e_i_top rfl))))))))))) (Eq.symm (ov_sc e_j_word rfl)) rfl (Eq.symm (ova_sc e_a_tape (ova_sc e_a_node rfl))) rfl rfl
  have hS : va_S (gA G) s.heap s.heap [] := va_S.rf
  have hend : ∀ (pc : Nat) (H : Heap) (locs : List Loc) (ls : Array Slot), decode cX14_readCompare pc = .ok (.ireturn, 1) → narrow .boolean (.int out.1) = .int out.1 → RS G K (ov I [(1105, o, out.2.1), (1106, o, out.2.2.1), (1107, o, out.2.2.2.1), (1108, o, out.2.2.2.2.1), (1109, o, out.2.2.2.2.2.1), (1110, o, out.2.2.2.2.2.2.1), (1111, o, out.2.2.2.2.2.2.2.1), (1113, o, out.2.2.2.2.2.2.2.2.1), (1187, o, out.2.2.2.2.2.2.2.2.2.1), (1190, o, out.2.2.2.2.2.2.2.2.2.2.1)]) (ov J [(1112, o, out.2.2.2.2.2.2.2.2.2.2.2.1)]) X (ova A [((o + 1), a_tape), ((o + 44), out.2.2.2.2.2.2.2.2.2.2.2.2)]) B Q H → va_S (gA G) s.heap H locs → W p l e ({ frames := 3, cells := 0, slots := 0, locals := 67 } : Room) s m ([.ref o, .int p1] : List Value).toArray below meth c H locs 0 0 (MQ below (gQ G (some (.int out.1)) K (ov I [(1105, o, out.2.1), (1106, o, out.2.2.1), (1107, o, out.2.2.2.1), (1108, o, out.2.2.2.2.1), (1109, o, out.2.2.2.2.2.1), (1110, o, out.2.2.2.2.2.2.1), (1111, o, out.2.2.2.2.2.2.2.1), (1113, o, out.2.2.2.2.2.2.2.2.1), (1187, o, out.2.2.2.2.2.2.2.2.2.1), (1190, o, out.2.2.2.2.2.2.2.2.2.2.1)]) (ov J [(1112, o, out.2.2.2.2.2.2.2.2.2.2.2.1)]) X (ova A [((o + 1), a_tape), ((o + 44), out.2.2.2.2.2.2.2.2.2.2.2.2)]) B Q) ([.ref o, .int p1] : List Value).toArray s 0 0 (gA G)) (F0 m pc ls [.int out.1]) := fun pc H locs ls hd hz hR hS => g_zret hx hb hr hlocks hz hG hR hS rfl hd
  generalize MQ below (gQ G (some (.int out.1)) K (ov I [(1105, o, out.2.1), (1106, o, out.2.2.1), (1107, o, out.2.2.2.1), (1108, o, out.2.2.2.2.1), (1109, o, out.2.2.2.2.2.1), (1110, o, out.2.2.2.2.2.2.1), (1111, o, out.2.2.2.2.2.2.2.1), (1113, o, out.2.2.2.2.2.2.2.2.1), (1187, o, out.2.2.2.2.2.2.2.2.2.1), (1190, o, out.2.2.2.2.2.2.2.2.2.2.1)]) (ov J [(1112, o, out.2.2.2.2.2.2.2.2.2.2.2.1)]) X (ova A [((o + 1), a_tape), ((o + 44), out.2.2.2.2.2.2.2.2.2.2.2.2)]) B Q) ([.ref o, .int p1] : List Value).toArray s 0 0 (gA G) = Z at hend ⊢
  generalize ([.ref o, .int p1] : List Value).toArray = args at hts hend ⊢
  unfold f14_readCompare at hf
  refine lv_aload_n hx hb dX14_readCompare_0 rfl (lv_at hl 0 rfl) ?_
  refine lv_bipush (v := 60) hx hb dX14_readCompare_1 lb_60 ?_
  obtain ⟨rr1, hrr1, hf⟩ := bind_s hf
  refine g0_cV (rm := (0, 0)) (As := [.int (60 : Int32)]) (rest := []) ⟨hx, hb, hml, hown, hts⟩ hG hR hS (m14_isSign l G K (ov I [(1105, o, i_to), (1106, o, i_from), (1107, o, i_kind), (1108, o, i_number), (1109, o, i_sign), (1110, o, i_fault), (1111, o, i_at), (1113, o, i_told), (1187, o, i_nodes), (1190, o, i_top)]) (ov J [(1112, o, j_word)]) X (ova A [((o + 1), a_tape), ((o + 44), a_node)]) B Q o shM (60 : Int32) i_kind i_sign (ov_get 2 rfl rfl) (ov_get 4 rfl rfl) rr1 hrr1) (cwV 1 hts gi_X14_229 rfl rfl rfl hd_X14_isSign ⟨Nat.le_of_ble_eq_true rfl, Nat.le_of_ble_eq_true rfl⟩) shM.1 rfl rfl hl.1 (Nat.le_of_ble_eq_true rfl) dX14_readCompare_3 ⟨Nat.le_refl _, Nat.le_refl _⟩ rfl (fun H locs hR hS => ?_)
  have hj33 : ∀ (j33_i_fault : Int32) (j33_i_at : Int32), f14_readCompare_j33 p1 i_size i_limit i_to i_from i_kind i_number i_sign i_told i_nodes i_top j_word a_tape a_node j33_i_fault j33_i_at = some out → ∀ (H : Heap) (locs : List Loc) (ls : Array Slot), RS G K (ov I [(1105, o, i_to), (1106, o, i_from), (1107, o, i_kind), (1108, o, i_number), (1109, o, i_sign), (1110, o, j33_i_fault), (1111, o, j33_i_at), (1113, o, i_told), (1187, o, i_nodes), (1190, o, i_top)]) (ov J [(1112, o, j_word)]) X (ova A [((o + 1), a_tape), ((o + 44), a_node)]) B Q H → va_S (gA G) s.heap H locs → lv_has ls 3 [(0, .ref o), (1, .int p1)] → W p l e ({ frames := 3, cells := 0, slots := 0, locals := 67 } : Room) s m args below meth c H locs 0 0 Z (F0 m 33 ls []) := by
    intro j33_i_fault j33_i_at hf H locs ls hR hS hl
    unfold f14_readCompare_j33 at hf
    refine lv_aload_n hx hb dX14_readCompare_33 rfl (lv_at hl 0 rfl) ?_
    refine n_geti (v := i_sign) hx hb hts hown hG hR gFi_X14_180_11 shM.1 (ov_get 4 rfl rfl) dX14_readCompare_34 ?_
    refine lv_istore_n (lv' := [(2, .int i_sign), (0, .ref o), (1, .int p1)]) hx hb dX14_readCompare_37 rfl hl (by decide) rfl (fun ls hl => ?_)
    refine lv_aload_n hx hb dX14_readCompare_38 rfl (lv_at hl 1 rfl) ?_
    obtain ⟨rr2, hrr2, hf⟩ := bind_s hf
    refine g0_cVv (rm := (1, 21)) (As := []) (rest := []) ⟨hx, hb, hml, hown, hts⟩ hG hR hS (m14_go l G K (ov I [(1105, o, i_to), (1106, o, i_from), (1107, o, i_kind), (1108, o, i_number), (1109, o, i_sign), (1110, o, j33_i_fault), (1111, o, j33_i_at), (1113, o, i_told), (1187, o, i_nodes), (1190, o, i_top)]) (ov J [(1112, o, j_word)]) X (ova A [((o + 1), a_tape), ((o + 44), a_node)]) B Q o shM i_size i_limit i_to i_from i_kind i_number i_sign j_word a_tape ((congrFun (ov_no rfl) _).trans e_i_size) ((congrFun (ov_no rfl) _).trans e_i_limit) (ov_get 0 rfl rfl) (ov_get 1 rfl rfl) (ov_get 2 rfl rfl) (ov_get 3 rfl rfl) (ov_get 4 rfl rfl) (ov_get 0 rfl rfl) (ova_get 0 hN_A rfl) rr2 hrr2) (cwV 0 hts gi_X14_226 rfl rfl rfl hd_X14_go ⟨Nat.le_of_ble_eq_true rfl, Nat.le_of_ble_eq_true rfl⟩) shM.1 rfl rfl hl.1 (Nat.le_of_ble_eq_true rfl) dX14_readCompare_39 ⟨Nat.le_refl _, Nat.le_refl _⟩ rfl (fun H locs hR hS => ?_)
    have hR : RS G K (ov I [(1105, o, rr2.1), (1106, o, rr2.2.1), (1107, o, rr2.2.2.1), (1108, o, rr2.2.2.2.1), (1109, o, rr2.2.2.2.2.1), (1110, o, j33_i_fault), (1111, o, j33_i_at), (1113, o, i_told), (1187, o, i_nodes), (1190, o, i_top)]) (ov J [(1112, o, rr2.2.2.2.2.2)]) X (ova A [((o + 1), a_tape), ((o + 44), a_node)]) B Q H := hR.to (ov_merge (l := [(1105, o, i_to), (1106, o, i_from), (1107, o, i_kind), (1108, o, i_number), (1109, o, i_sign), (1110, o, j33_i_fault), (1111, o, j33_i_at), (1113, o, i_told), (1187, o, i_nodes), (1190, o, i_top)]) rfl [0, 1, 2, 3, 4] [(1105, o, rr2.1), (1106, o, rr2.2.1), (1107, o, rr2.2.2.1), (1108, o, rr2.2.2.2.1), (1109, o, rr2.2.2.2.2.1)] rfl rfl) (ov_merge (l := [(1112, o, j_word)]) rfl [0] [(1112, o, rr2.2.2.2.2.2)] rfl rfl) rfl rfl rfl rfl
    refine lv_aload_n hx hb dX14_readCompare_42 rfl (lv_at hl 1 rfl) ?_
    refine lv_iconst (v := 0) hx hb dX14_readCompare_43 li_0 ?_
    refine lv_ldcw hx hb hown (hts _ q2308) dX14_readCompare_44 ?_
    obtain ⟨rr3, hrr3, hf⟩ := bind_s hf
    refine g0_cV (rm := (2, 45)) (As := [.int (0 : Int32), .int (99999999 : Int32)]) (rest := []) ⟨hx, hb, hml, hown, hts⟩ hG hR hS (m14_readNumber l G K (ov I [(1105, o, rr2.1), (1106, o, rr2.2.1), (1107, o, rr2.2.2.1), (1108, o, rr2.2.2.2.1), (1109, o, rr2.2.2.2.2.1), (1110, o, j33_i_fault), (1111, o, j33_i_at), (1113, o, i_told), (1187, o, i_nodes), (1190, o, i_top)]) (ov J [(1112, o, rr2.2.2.2.2.2)]) X (ova A [((o + 1), a_tape), ((o + 44), a_node)]) B Q o shM (0 : Int32) (99999999 : Int32) i_size i_limit rr2.1 rr2.2.1 rr2.2.2.1 rr2.2.2.2.1 rr2.2.2.2.2.1 j33_i_fault j33_i_at i_told rr2.2.2.2.2.2 a_tape ((congrFun (ov_no rfl) _).trans e_i_size) ((congrFun (ov_no rfl) _).trans e_i_limit) (ov_get 0 rfl rfl) (ov_get 1 rfl rfl) (ov_get 2 rfl rfl) (ov_get 3 rfl rfl) (ov_get 4 rfl rfl) (ov_get 5 rfl rfl) (ov_get 6 rfl rfl) (ov_get 7 rfl rfl) (ov_get 0 rfl rfl) (ova_get 0 hN_A rfl) rr3 hrr3) (cwV 2 hts gi_X14_251 rfl rfl rfl hd_X14_readNumber ⟨Nat.le_of_ble_eq_true rfl, Nat.le_of_ble_eq_true rfl⟩) shM.1 rfl rfl hl.1 (Nat.le_of_ble_eq_true rfl) dX14_readCompare_47 ⟨Nat.le_refl _, Nat.le_refl _⟩ rfl (fun H locs hR hS => ?_)
    have hR : RS G K (ov I [(1105, o, rr3.2.1), (1106, o, rr3.2.2.1), (1107, o, rr3.2.2.2.1), (1108, o, rr3.2.2.2.2.1), (1109, o, rr3.2.2.2.2.2.1), (1110, o, rr3.2.2.2.2.2.2.1), (1111, o, rr3.2.2.2.2.2.2.2.1), (1113, o, rr3.2.2.2.2.2.2.2.2.1), (1187, o, i_nodes), (1190, o, i_top)]) (ov J [(1112, o, rr3.2.2.2.2.2.2.2.2.2)]) X (ova A [((o + 1), a_tape), ((o + 44), a_node)]) B Q H := hR.to (ov_merge (l := [(1105, o, rr2.1), (1106, o, rr2.2.1), (1107, o, rr2.2.2.1), (1108, o, rr2.2.2.2.1), (1109, o, rr2.2.2.2.2.1), (1110, o, j33_i_fault), (1111, o, j33_i_at), (1113, o, i_told), (1187, o, i_nodes), (1190, o, i_top)]) rfl [0, 1, 2, 3, 4, 5, 6, 7] [(1105, o, rr3.2.1), (1106, o, rr3.2.2.1), (1107, o, rr3.2.2.2.1), (1108, o, rr3.2.2.2.2.1), (1109, o, rr3.2.2.2.2.2.1), (1110, o, rr3.2.2.2.2.2.2.1), (1111, o, rr3.2.2.2.2.2.2.2.1), (1113, o, rr3.2.2.2.2.2.2.2.2.1)] rfl rfl) (ov_merge (l := [(1112, o, rr2.2.2.2.2.2)]) rfl [0] [(1112, o, rr3.2.2.2.2.2.2.2.2.2)] rfl rfl) rfl rfl rfl rfl
    refine lv_if_ne (tgt := 55) hx hb dX14_readCompare_50 (by decide) (fun c4 => ?_) (fun c4 => ?_)
    · have hf := ite_f c4 hf
      refine lv_aload_n hx hb dX14_readCompare_55 rfl (lv_at hl 1 rfl) ?_
      refine lv_aload_n hx hb dX14_readCompare_56 rfl (lv_at hl 1 rfl) ?_
      refine lv_iconst (v := 5) hx hb dX14_readCompare_57 li_5 ?_
      refine lv_iload_n hx hb dX14_readCompare_58 rfl (lv_at hl 2 rfl) ?_
      refine lv_bipush (v := 24) hx hb dX14_readCompare_59 lb_24 ?_
      obtain ⟨v5, ev5, hf⟩ := lt_some hf
      refine n_isub hx hb ev5 dX14_readCompare_61 ?_
      refine lv_aload_n hx hb dX14_readCompare_62 rfl (lv_at hl 1 rfl) ?_
      refine n_geti (v := rr3.2.2.2.2.2.2.2.2.1) hx hb hts hown hG hR gFi_X14_223_11 shM.1 (ov_get 7 rfl rfl) dX14_readCompare_63 ?_
      refine lv_iload_n hx hb dX14_readCompare_66 rfl (lv_at hl 0 rfl) ?_
      obtain ⟨rr6, hrr6, hf⟩ := bind_s hf
      refine g0_cV (rm := (0, 0)) (As := [.int (5 : Int32), .int v5, .int rr3.2.2.2.2.2.2.2.2.1, .int i_sign]) (rest := [.ref o]) ⟨hx, hb, hml, hown, hts⟩ hG hR hS (m14_lays l G K (ov I [(1105, o, rr3.2.1), (1106, o, rr3.2.2.1), (1107, o, rr3.2.2.2.1), (1108, o, rr3.2.2.2.2.1), (1109, o, rr3.2.2.2.2.2.1), (1110, o, rr3.2.2.2.2.2.2.1), (1111, o, rr3.2.2.2.2.2.2.2.1), (1113, o, rr3.2.2.2.2.2.2.2.2.1), (1187, o, i_nodes), (1190, o, i_top)]) (ov J [(1112, o, rr3.2.2.2.2.2.2.2.2.2)]) X (ova A [((o + 1), a_tape), ((o + 44), a_node)]) B Q o shM (5 : Int32) v5 rr3.2.2.2.2.2.2.2.2.1 i_sign i_nodes a_node (ov_get 8 rfl rfl) (ova_get 1 hN_A rfl) rr6 hrr6) (cwV 4 hts gi_X14_512 rfl rfl rfl hd_X14_lays ⟨Nat.le_of_ble_eq_true rfl, Nat.le_of_ble_eq_true rfl⟩) shM.1 rfl rfl hl.1 (Nat.le_of_ble_eq_true rfl) dX14_readCompare_67 ⟨Nat.le_refl _, Nat.le_refl _⟩ rfl (fun H locs hR hS => ?_)
      have hR : RS G K (ov I [(1105, o, rr3.2.1), (1106, o, rr3.2.2.1), (1107, o, rr3.2.2.2.1), (1108, o, rr3.2.2.2.2.1), (1109, o, rr3.2.2.2.2.2.1), (1110, o, rr3.2.2.2.2.2.2.1), (1111, o, rr3.2.2.2.2.2.2.2.1), (1113, o, rr3.2.2.2.2.2.2.2.2.1), (1187, o, rr6.2.1), (1190, o, i_top)]) (ov J [(1112, o, rr3.2.2.2.2.2.2.2.2.2)]) X (ova A [((o + 1), a_tape), ((o + 44), rr6.2.2)]) B Q H := hR.to (ov_merge (l := [(1105, o, rr3.2.1), (1106, o, rr3.2.2.1), (1107, o, rr3.2.2.2.1), (1108, o, rr3.2.2.2.2.1), (1109, o, rr3.2.2.2.2.2.1), (1110, o, rr3.2.2.2.2.2.2.1), (1111, o, rr3.2.2.2.2.2.2.2.1), (1113, o, rr3.2.2.2.2.2.2.2.2.1), (1187, o, i_nodes), (1190, o, i_top)]) rfl [8] [(1187, o, rr6.2.1)] rfl rfl) rfl rfl (ova_merge (l := [((o + 1), a_tape), ((o + 44), a_node)]) hN_A [1] [((o + 44), rr6.2.2)] rfl rfl) rfl rfl
      refine n_puti (li' := [(1105, o, rr3.2.1), (1106, o, rr3.2.2.1), (1107, o, rr3.2.2.2.1), (1108, o, rr3.2.2.2.2.1), (1109, o, rr3.2.2.2.2.2.1), (1110, o, rr3.2.2.2.2.2.2.1), (1111, o, rr3.2.2.2.2.2.2.2.1), (1113, o, rr3.2.2.2.2.2.2.2.2.1), (1187, o, rr6.2.1), (1190, o, rr6.1)]) hx hb hts hown hG hR hS gPi_X14_509_11 shM.1 9 rfl rfl rfl dX14_readCompare_70 (fun H locs hR hS => ?_)
      refine lv_iconst (v := 1) hx hb dX14_readCompare_73 li_1 ?_
      obtain rfl := some_i hf
      exact hend _ _ _ _ dX14_readCompare_74 nz_1 hR hS
    · have hf := ite_t c4 hf
      refine lv_iconst (v := 0) hx hb dX14_readCompare_53 li_0 ?_
      obtain rfl := some_i hf
      exact hend _ _ _ _ dX14_readCompare_54 nz_0 hR hS
  refine lv_if_ne (tgt := 33) hx hb dX14_readCompare_6 (by decide) (fun c7 => ?_) (fun c7 => ?_)
  · have hf := ite_f c7 hf
    exact hj33 i_fault i_at hf _ _ _ hR hS (lv_sub hl [0, 1] rfl)
  · have hf := ite_t c7 hf
    refine lv_aload_n hx hb dX14_readCompare_9 rfl (lv_at hl 0 rfl) ?_
    refine lv_bipush (v := 61) hx hb dX14_readCompare_10 lb_61 ?_
    obtain ⟨rr8, hrr8, hf⟩ := bind_s hf
    refine g0_cV (rm := (0, 0)) (As := [.int (61 : Int32)]) (rest := []) ⟨hx, hb, hml, hown, hts⟩ hG hR hS (m14_isSign l G K (ov I [(1105, o, i_to), (1106, o, i_from), (1107, o, i_kind), (1108, o, i_number), (1109, o, i_sign), (1110, o, i_fault), (1111, o, i_at), (1113, o, i_told), (1187, o, i_nodes), (1190, o, i_top)]) (ov J [(1112, o, j_word)]) X (ova A [((o + 1), a_tape), ((o + 44), a_node)]) B Q o shM (61 : Int32) i_kind i_sign (ov_get 2 rfl rfl) (ov_get 4 rfl rfl) rr8 hrr8) (cwV 1 hts gi_X14_229 rfl rfl rfl hd_X14_isSign ⟨Nat.le_of_ble_eq_true rfl, Nat.le_of_ble_eq_true rfl⟩) shM.1 rfl rfl hl.1 (Nat.le_of_ble_eq_true rfl) dX14_readCompare_12 ⟨Nat.le_refl _, Nat.le_refl _⟩ rfl (fun H locs hR hS => ?_)
    refine lv_if_ne (tgt := 33) hx hb dX14_readCompare_15 (by decide) (fun c9 => ?_) (fun c9 => ?_)
    · have hf := ite_f c9 hf
      exact hj33 i_fault i_at hf _ _ _ hR hS (lv_sub hl [0, 1] rfl)
    · have hf := ite_t c9 hf
      refine lv_aload_n hx hb dX14_readCompare_18 rfl (lv_at hl 0 rfl) ?_
      refine lv_bipush (v := 62) hx hb dX14_readCompare_19 lb_62 ?_
      obtain ⟨rr10, hrr10, hf⟩ := bind_s hf
      refine g0_cV (rm := (0, 0)) (As := [.int (62 : Int32)]) (rest := []) ⟨hx, hb, hml, hown, hts⟩ hG hR hS (m14_isSign l G K (ov I [(1105, o, i_to), (1106, o, i_from), (1107, o, i_kind), (1108, o, i_number), (1109, o, i_sign), (1110, o, i_fault), (1111, o, i_at), (1113, o, i_told), (1187, o, i_nodes), (1190, o, i_top)]) (ov J [(1112, o, j_word)]) X (ova A [((o + 1), a_tape), ((o + 44), a_node)]) B Q o shM (62 : Int32) i_kind i_sign (ov_get 2 rfl rfl) (ov_get 4 rfl rfl) rr10 hrr10) (cwV 1 hts gi_X14_229 rfl rfl rfl hd_X14_isSign ⟨Nat.le_of_ble_eq_true rfl, Nat.le_of_ble_eq_true rfl⟩) shM.1 rfl rfl hl.1 (Nat.le_of_ble_eq_true rfl) dX14_readCompare_21 ⟨Nat.le_refl _, Nat.le_refl _⟩ rfl (fun H locs hR hS => ?_)
      refine lv_if_ne (tgt := 33) hx hb dX14_readCompare_24 (by decide) (fun c11 => ?_) (fun c11 => ?_)
      · have hf := ite_f c11 hf
        exact hj33 i_fault i_at hf _ _ _ hR hS (lv_sub hl [0, 1] rfl)
      · have hf := ite_t c11 hf
        refine lv_aload_n hx hb dX14_readCompare_27 rfl (lv_at hl 0 rfl) ?_
        refine lv_iconst (v := 1) hx hb dX14_readCompare_28 li_1 ?_
        obtain ⟨rr12, hrr12, hf⟩ := bind_s hf
        refine g0_cV (rm := (0, 0)) (As := [.int (1 : Int32)]) (rest := []) ⟨hx, hb, hml, hown, hts⟩ hG hR hS (m14_bad l G K (ov I [(1105, o, i_to), (1106, o, i_from), (1107, o, i_kind), (1108, o, i_number), (1109, o, i_sign), (1110, o, i_fault), (1111, o, i_at), (1113, o, i_told), (1187, o, i_nodes), (1190, o, i_top)]) (ov J [(1112, o, j_word)]) X (ova A [((o + 1), a_tape), ((o + 44), a_node)]) B Q o shM (1 : Int32) i_from i_kind i_fault i_at (ov_get 1 rfl rfl) (ov_get 2 rfl rfl) (ov_get 5 rfl rfl) (ov_get 6 rfl rfl) rr12 hrr12) (cwV 1 hts gi_X14_216 rfl rfl rfl hd_X14_bad ⟨Nat.le_of_ble_eq_true rfl, Nat.le_of_ble_eq_true rfl⟩) shM.1 rfl rfl hl.1 (Nat.le_of_ble_eq_true rfl) dX14_readCompare_29 ⟨Nat.le_refl _, Nat.le_refl _⟩ rfl (fun H locs hR hS => ?_)
        have hR : RS G K (ov I [(1105, o, i_to), (1106, o, i_from), (1107, o, i_kind), (1108, o, i_number), (1109, o, i_sign), (1110, o, rr12.2.1), (1111, o, rr12.2.2), (1113, o, i_told), (1187, o, i_nodes), (1190, o, i_top)]) (ov J [(1112, o, j_word)]) X (ova A [((o + 1), a_tape), ((o + 44), a_node)]) B Q H := hR.to (ov_merge (l := [(1105, o, i_to), (1106, o, i_from), (1107, o, i_kind), (1108, o, i_number), (1109, o, i_sign), (1110, o, i_fault), (1111, o, i_at), (1113, o, i_told), (1187, o, i_nodes), (1190, o, i_top)]) rfl [5, 6] [(1110, o, rr12.2.1), (1111, o, rr12.2.2)] rfl rfl) rfl rfl rfl rfl rfl
        obtain ⟨hz9, hf⟩ := gd_some hf
        obtain rfl := some_i hf
        exact hend _ _ _ _ dX14_readCompare_32 (congrArg Value.int hz9) hR hS
noncomputable def f14_image_e5_0 (p1 : Int32) (a_isKept : Nat → Int32) (rr1 : Int32 × (Nat → Int32)) (x4_0 : (Nat → Int32)) (x5_0 : (Nat → Int64)) : Option (Int32 × Int32 × Int32 × (Nat → Int32) × (Nat → Int32) × (Nat → Int32) × (Nat → Int64)) :=
  gd (inb p1 2) <|
  lt (upd a_isKept p1.toNatClampNeg (vp_nar .boolean (1 : Int32))) fun u7 =>
  some ((1 : Int32), (0 : Int32), rr1.1, rr1.2, x4_0, u7, x5_0)

noncomputable def f14_image_s5 (p1 : Int32) (b_name : Nat → Int64) (w5_2 : Int32) (w5_b_keptName : Nat → Int64) : Option ((Int32 × (Nat → Int64)) ⊕ ((Nat → Int64))) :=
  if (12 : Int32) ≤ w5_2 then
    some (.inr w5_b_keptName)
  else
    lt ((12 : Int32) * p1) fun v9 =>
    lt (v9 + w5_2) fun v10 =>
    gd (inb w5_2 12) <|
    lt (b_name w5_2.toNatClampNeg) fun v12 =>
    gd (inb v10 24) <|
    lt (vp_updL w5_b_keptName v10.toNatClampNeg v12) fun u14 =>
    lt (w5_2 + (1 : Int32)) fun v15 =>
    some (.inl (v15, u14))

noncomputable def f14_image_e4_0 (p1 : Int32) (a_isKept : Nat → Int32) (b_name : Nat → Int64) (b_keptName : Nat → Int64) (rr1 : Int32 × (Nat → Int32)) (x4_0 : (Nat → Int32)) : Option (Int32 × Int32 × Int32 × (Nat → Int32) × (Nat → Int32) × (Nat → Int32) × (Nat → Int64)) :=
  (whl (fun (s5 : Int32 × (Nat → Int64)) => f14_image_s5 p1 b_name s5.1 s5.2) FU ((0 : Int32), b_keptName)).bind fun rl5 =>
  f14_image_e5_0 p1 a_isKept rr1 x4_0 rl5

noncomputable def f14_image_s4 (p1 : Int32) (rr1 : Int32 × (Nat → Int32)) (w4_2 : Int32) (w4_a_kept : Nat → Int32) : Option ((Int32 × (Nat → Int32)) ⊕ ((Nat → Int32))) :=
  if (800 : Int32) ≤ w4_2 then
    some (.inr w4_a_kept)
  else
    lt ((800 : Int32) * p1) fun v17 =>
    lt (v17 + w4_2) fun v18 =>
    gd (inb w4_2 800) <|
    lt (rr1.2 w4_2.toNatClampNeg) fun v20 =>
    gd (inb v18 1600) <|
    lt (upd w4_a_kept v18.toNatClampNeg v20) fun u22 =>
    lt (w4_2 + (1 : Int32)) fun v23 =>
    some (.inl (v23, u22))

noncomputable def f14_image (p1 : Int32) (i_thrown : Int32) (i_isBegun : Int32) (a_now : Nat → Int32) (a_kept : Nat → Int32) (a_isKept : Nat → Int32) (b_name : Nat → Int64) (b_keptName : Nat → Int64) : Option (Int32 × Int32 × Int32 × (Nat → Int32) × (Nat → Int32) × (Nat → Int32) × (Nat → Int64)) :=
  (f14_lay i_isBegun a_now).bind fun rr1 =>
  (f14_isIn p1 (0 : Int32) (1 : Int32)).bind fun rr2 =>
  if rr2 = 0 then
    some ((0 : Int32), (0 : Int32), rr1.1, rr1.2, a_kept, a_isKept, b_keptName)
  else
    (whl (fun (s4 : Int32 × (Nat → Int32)) => f14_image_s4 p1 rr1 s4.1 s4.2) FU ((0 : Int32), a_kept)).bind fun rl4 =>
    f14_image_e4_0 p1 a_isKept b_name b_keptName rr1 rl4
set_option maxHeartbeats 4000000 in
theorem m14_image (l : Launch) (G : gG) (K : gK) (I : gI) (J : gJ) (X : gX) (A : gI) (B : gJ) (Q : gX) (o : Nat) (shM : Sh K X o 11 rows11) (p1 : Int32) (i_thrown : Int32) (i_isBegun : Int32) (a_now : Nat → Int32) (a_kept : Nat → Int32) (a_isKept : Nat → Int32) (b_name : Nat → Int64) (b_keptName : Nat → Int64) (e_i_thrown : I 1100 o = i_thrown) (e_i_isBegun : I 1122 o = i_isBegun) (e_a_now : A (o + 2) = a_now) (e_a_kept : A (o + 5) = a_kept) (e_a_isKept : A (o + 9) = a_isKept) (e_b_name : B (o + 6) = b_name) (e_b_keptName : B (o + 8) = b_keptName) (out : Int32 × Int32 × Int32 × (Nat → Int32) × (Nat → Int32) × (Nat → Int32) × (Nat → Int64)) (hf : f14_image p1 i_thrown i_isBegun a_now a_kept a_isKept b_name b_keptName = some out) : GMet l yX14_image cX14_image 3 (some .boolean) (2) (41) G [.ref o, .int p1] K I J X A B Q (some (.int out.1)) K (ov I [(1100, o, out.2.1), (1122, o, out.2.2.1)]) J X (ova A [((o + 2), out.2.2.2.1), ((o + 5), out.2.2.2.2.1), ((o + 9), out.2.2.2.2.2.1)]) (ova B [((o + 6), b_name), ((o + 8), out.2.2.2.2.2.2)]) Q 0 0 := by
  refine GMet.of (y := yX14_image) rfl (Nat.le_of_ble_eq_true rfl) rfl ?_
  intro p e s m below meth c ls hx hb hr hml hlocks hts hown hname hG hR hl
  have hown : s.vm.findClass RX14 = some m.cls := hown
  have k_a_now : K (o + 2) = some (.inr (0, 800)) := (shM.2 1 _ rfl).1
  have k_a_kept : K (o + 5) = some (.inr (0, 1600)) := (shM.2 4 _ rfl).1
  have k_a_isKept : K (o + 9) = some (.inr (1, 2)) := (shM.2 8 _ rfl).1
  have k_b_name : K (o + 6) = some (.inr (3, 12)) := (shM.2 5 _ rfl).1
  have k_b_keptName : K (o + 8) = some (.inr (3, 24)) := (shM.2 7 _ rfl).1
  have hN_A : nda [(o + 2), (o + 5), (o + 9)] := nd_off o [2, 5, 9] rfl
  have hN_B : nda [(o + 6), (o + 8)] := nd_off o [6, 8] rfl
  have hR : RS G K (ov I [(1100, o, i_thrown), (1122, o, i_isBegun)]) J X (ova A [((o + 2), a_now), ((o + 5), a_kept), ((o + 9), a_isKept)]) (ova B [((o + 6), b_name), ((o + 8), b_keptName)]) Q s.heap := hR.to (Eq.symm (ov_sc e_i_thrown (ov_sc e_i_isBegun rfl))) rfl rfl (Eq.symm (ova_sc e_a_now (ova_sc e_a_kept (ova_sc e_a_isKept rfl)))) (Eq.symm (ova_sc e_b_name (ova_sc e_b_keptName rfl))) rfl
  have hS : va_S (gA G) s.heap s.heap [] := va_S.rf
  have hend : ∀ (pc : Nat) (H : Heap) (locs : List Loc) (ls : Array Slot), decode cX14_image pc = .ok (.ireturn, 1) → narrow .boolean (.int out.1) = .int out.1 → RS G K (ov I [(1100, o, out.2.1), (1122, o, out.2.2.1)]) J X (ova A [((o + 2), out.2.2.2.1), ((o + 5), out.2.2.2.2.1), ((o + 9), out.2.2.2.2.2.1)]) (ova B [((o + 6), b_name), ((o + 8), out.2.2.2.2.2.2)]) Q H → va_S (gA G) s.heap H locs → W p l e ({ frames := 2, cells := 0, slots := 0, locals := 41 } : Room) s m ([.ref o, .int p1] : List Value).toArray below meth c H locs 0 0 (MQ below (gQ G (some (.int out.1)) K (ov I [(1100, o, out.2.1), (1122, o, out.2.2.1)]) J X (ova A [((o + 2), out.2.2.2.1), ((o + 5), out.2.2.2.2.1), ((o + 9), out.2.2.2.2.2.1)]) (ova B [((o + 6), b_name), ((o + 8), out.2.2.2.2.2.2)]) Q) ([.ref o, .int p1] : List Value).toArray s 0 0 (gA G)) (F0 m pc ls [.int out.1]) := fun pc H locs ls hd hz hR hS => g_zret hx hb hr hlocks hz hG hR hS rfl hd
  generalize MQ below (gQ G (some (.int out.1)) K (ov I [(1100, o, out.2.1), (1122, o, out.2.2.1)]) J X (ova A [((o + 2), out.2.2.2.1), ((o + 5), out.2.2.2.2.1), ((o + 9), out.2.2.2.2.2.1)]) (ova B [((o + 6), b_name), ((o + 8), out.2.2.2.2.2.2)]) Q) ([.ref o, .int p1] : List Value).toArray s 0 0 (gA G) = Z at hend ⊢
  generalize ([.ref o, .int p1] : List Value).toArray = args at hts hend ⊢
  unfold f14_image at hf
  refine lv_aload_n hx hb dX14_image_0 rfl (lv_at hl 0 rfl) ?_
  refine lv_iconst (v := 0) hx hb dX14_image_1 li_0 ?_
  refine n_puti (li' := [(1100, o, (0 : Int32)), (1122, o, i_isBegun)]) hx hb hts hown hG hR hS gPi_X14_148_11 shM.1 0 rfl rfl rfl dX14_image_2 (fun H locs hR hS => ?_)
  refine lv_aload_n hx hb dX14_image_5 rfl (lv_at hl 0 rfl) ?_
  obtain ⟨rr1, hrr1, hf⟩ := bind_s hf
  refine g0_cVv (rm := (1, 21)) (As := []) (rest := []) ⟨hx, hb, hml, hown, hts⟩ hG hR hS (m14_lay l G K (ov I [(1100, o, (0 : Int32)), (1122, o, i_isBegun)]) J X (ova A [((o + 2), a_now), ((o + 5), a_kept), ((o + 9), a_isKept)]) (ova B [((o + 6), b_name), ((o + 8), b_keptName)]) Q o shM i_isBegun a_now (ov_get 1 rfl rfl) (ova_get 0 hN_A rfl) rr1 hrr1) (cwV 0 hts gi_X14_232 rfl rfl rfl hd_X14_lay ⟨Nat.le_of_ble_eq_true rfl, Nat.le_of_ble_eq_true rfl⟩) shM.1 rfl rfl hl.1 (Nat.le_of_ble_eq_true rfl) dX14_image_6 ⟨Nat.le_refl _, Nat.le_refl _⟩ rfl (fun H locs hR hS => ?_)
  have hR : RS G K (ov I [(1100, o, (0 : Int32)), (1122, o, rr1.1)]) J X (ova A [((o + 2), rr1.2), ((o + 5), a_kept), ((o + 9), a_isKept)]) (ova B [((o + 6), b_name), ((o + 8), b_keptName)]) Q H := hR.to (ov_merge (l := [(1100, o, (0 : Int32)), (1122, o, i_isBegun)]) rfl [1] [(1122, o, rr1.1)] rfl rfl) rfl rfl (ova_merge (l := [((o + 2), a_now), ((o + 5), a_kept), ((o + 9), a_isKept)]) hN_A [0] [((o + 2), rr1.2)] rfl rfl) rfl rfl
  refine lv_iload_n hx hb dX14_image_9 rfl (lv_at hl 1 rfl) ?_
  refine lv_iconst (v := 0) hx hb dX14_image_10 li_0 ?_
  refine lv_iconst (v := 1) hx hb dX14_image_11 li_1 ?_
  obtain ⟨rr2, hrr2, hf⟩ := bind_s hf
  refine g0_cS (rm := (0, 0)) (As := [.int p1, .int (0 : Int32), .int (1 : Int32)]) (rest := []) ⟨hx, hb, hml, hown, hts⟩ hG hR hS (m14_isIn l G K (ov I [(1100, o, (0 : Int32)), (1122, o, rr1.1)]) J X (ova A [((o + 2), rr1.2), ((o + 5), a_kept), ((o + 9), a_isKept)]) (ova B [((o + 6), b_name), ((o + 8), b_keptName)]) Q p1 (0 : Int32) (1 : Int32) rr2 hrr2) (cwS 3 hts gi_X14_219 rfl rfl rfl hd_X14_isIn ⟨Nat.le_of_ble_eq_true rfl, Nat.le_of_ble_eq_true rfl⟩) rfl hl.1 (Nat.le_of_ble_eq_true rfl) dX14_image_12 ⟨Nat.le_refl _, Nat.le_refl _⟩ rfl (fun H locs hR hS => ?_)
  refine lv_if_ne (tgt := 20) hx hb dX14_image_15 (by decide) (fun c3 => ?_) (fun c3 => ?_)
  · have hf := ite_f c3 hf
    refine lv_iconst (v := 0) hx hb dX14_image_20 li_0 ?_
    refine lv_istore_n (lv' := [(2, .int (0 : Int32)), (0, .ref o), (1, .int p1)]) hx hb dX14_image_21 rfl hl (by decide) rfl (fun ls hl => ?_)
    obtain ⟨rl4, hw4, hfo4⟩ := bind_s hf
    have hx4_0 : ∀ (x4_0 : (Nat → Int32)), f14_image_e4_0 p1 a_isKept b_name b_keptName rr1 x4_0 = some out → ∀ (H : Heap) (locs : List Loc) (ls : Array Slot), RS G K (ov I [(1100, o, (0 : Int32)), (1122, o, rr1.1)]) J X (ova A [((o + 2), rr1.2), ((o + 5), x4_0), ((o + 9), a_isKept)]) (ova B [((o + 6), b_name), ((o + 8), b_keptName)]) Q H → va_S (gA G) s.heap H locs → lv_has ls 3 [(0, .ref o), (1, .int p1)] → W p l e ({ frames := 2, cells := 0, slots := 0, locals := 41 } : Room) s m args below meth c H locs 0 0 Z (F0 m 53 ls []) := by
      intro x4_0 hf H locs ls hR hS hl
      unfold f14_image_e4_0 at hf
      refine lv_iconst (v := 0) hx hb dX14_image_53 li_0 ?_
      refine lv_istore_n (lv' := [(2, .int (0 : Int32)), (0, .ref o), (1, .int p1)]) hx hb dX14_image_54 rfl hl (by decide) rfl (fun ls hl => ?_)
      obtain ⟨rl5, hw5, hfo5⟩ := bind_s hf
      have hx5_0 : ∀ (x5_0 : (Nat → Int64)), f14_image_e5_0 p1 a_isKept rr1 x4_0 x5_0 = some out → ∀ (H : Heap) (locs : List Loc) (ls : Array Slot), RS G K (ov I [(1100, o, (0 : Int32)), (1122, o, rr1.1)]) J X (ova A [((o + 2), rr1.2), ((o + 5), x4_0), ((o + 9), a_isKept)]) (ova B [((o + 6), b_name), ((o + 8), x5_0)]) Q H → va_S (gA G) s.heap H locs → lv_has ls 3 [(0, .ref o), (1, .int p1)] → W p l e ({ frames := 2, cells := 0, slots := 0, locals := 41 } : Room) s m args below meth c H locs 0 0 Z (F0 m 84 ls []) := by
        intro x5_0 hf H locs ls hR hS hl
        unfold f14_image_e5_0 at hf
        refine lv_aload_n hx hb dX14_image_84 rfl (lv_at hl 0 rfl) ?_
        refine g_getr (b := (o + 9)) hx hb hts hown hG hR gFx_X14_35_11 shM.1 ((shM.2 8 _ rfl).2) dX14_image_85 ?_
        refine lv_iload_n hx hb dX14_image_88 rfl (lv_at hl 1 rfl) ?_
        refine lv_iconst (v := 1) hx hb dX14_image_89 li_1 ?_
        obtain ⟨c6, hf⟩ := gd_some hf
        obtain ⟨u7, eu7, hf⟩ := lt_some hf
        refine n_zast (la' := [((o + 2), rr1.2), ((o + 5), x4_0), ((o + 9), u7)]) hx hb hG hR hS k_a_isKept c6 hN_A 2 rfl eu7 rfl dX14_image_90 (fun H locs hR hS => ?_)
        refine lv_iconst (v := 1) hx hb dX14_image_91 li_1 ?_
        obtain rfl := some_i hf
        exact hend _ _ _ _ dX14_image_92 nz_1 hR hS
      refine whl_walk (P := fun (s5 : Int32 × (Nat → Int64)) => ∀ (H : Heap) (locs : List Loc) (ls : Array Slot), RS G K (ov I [(1100, o, (0 : Int32)), (1122, o, rr1.1)]) J X (ova A [((o + 2), rr1.2), ((o + 5), x4_0), ((o + 9), a_isKept)]) (ova B [((o + 6), b_name), ((o + 8), s5.2)]) Q H → va_S (gA G) s.heap H locs → lv_has ls 3 [(0, .ref o), (1, .int p1), (2, .int s5.1)] → W p l e ({ frames := 2, cells := 0, slots := 0, locals := 41 } : Room) s m args below meth c H locs 0 0 Z (F0 m 55 ls [])) (r := rl5) ?_ FU _ hw5 _ _ _ hR hS (lv_sub hl [1, 2, 0] rfl)
      clear hR hS hl hf
      intro s5 o5 hf hk5 H locs ls hR hS hl
      obtain ⟨w5_2, w5_b_keptName⟩ := s5
      have hf : f14_image_s5 p1 b_name w5_2 w5_b_keptName = some o5 := hf
      have hR : RS G K (ov I [(1100, o, (0 : Int32)), (1122, o, rr1.1)]) J X (ova A [((o + 2), rr1.2), ((o + 5), x4_0), ((o + 9), a_isKept)]) (ova B [((o + 6), b_name), ((o + 8), w5_b_keptName)]) Q H := hR
      have hl : lv_has ls 3 [(0, .ref o), (1, .int p1), (2, .int w5_2)] := hl
      unfold f14_image_s5 at hf
      refine lv_iload_n hx hb dX14_image_55 rfl (lv_at hl 2 rfl) ?_
      refine lv_bipush (v := 12) hx hb dX14_image_56 lb_12 ?_
      refine lv_icmp_ge (tgt := 84) hx hb dX14_image_58 (by decide) (fun c8 => ?_) (fun c8 => ?_)
      · have hf := ite_t c8 hf
        obtain rfl := some_i hf
        replace hk5 : _ = rl5 := hk5
        subst hk5
        exact hx5_0 w5_b_keptName hfo5 _ _ _ hR hS (lv_sub hl [0, 1] rfl)
      · have hf := ite_f c8 hf
        refine lv_aload_n hx hb dX14_image_61 rfl (lv_at hl 0 rfl) ?_
        refine g_getr (b := (o + 8)) hx hb hts hown hG hR gFx_X14_32_11 shM.1 ((shM.2 7 _ rfl).2) dX14_image_62 ?_
        refine lv_bipush (v := 12) hx hb dX14_image_65 lb_12 ?_
        refine lv_iload_n hx hb dX14_image_67 rfl (lv_at hl 1 rfl) ?_
        obtain ⟨v9, ev9, hf⟩ := lt_some hf
        refine n_imul hx hb ev9 dX14_image_68 ?_
        refine lv_iload_n hx hb dX14_image_69 rfl (lv_at hl 2 rfl) ?_
        obtain ⟨v10, ev10, hf⟩ := lt_some hf
        refine n_iadd hx hb ev10 dX14_image_70 ?_
        refine lv_aload_n hx hb dX14_image_71 rfl (lv_at hl 0 rfl) ?_
        refine g_getr (b := (o + 6)) hx hb hts hown hG hR gFx_X14_25_11 shM.1 ((shM.2 5 _ rfl).2) dX14_image_72 ?_
        refine lv_iload_n hx hb dX14_image_75 rfl (lv_at hl 2 rfl) ?_
        obtain ⟨c11, hf⟩ := gd_some hf
        obtain ⟨v12, ev12, hf⟩ := lt_some hf
        refine n_lald (x := b_name) hx hb hG hR k_b_name c11 (ova_get 0 hN_B rfl) ev12 dX14_image_76 ?_
        obtain ⟨c13, hf⟩ := gd_some hf
        obtain ⟨u14, eu14, hf⟩ := lt_some hf
        refine n_last (la' := [((o + 6), b_name), ((o + 8), u14)]) hx hb hG hR hS k_b_keptName c13 hN_B 1 rfl eu14 rfl dX14_image_77 (fun H locs hR hS => ?_)
        obtain ⟨v15, ev15, hf⟩ := lt_some hf
        refine lv_iinc (k := 2) (v := v15) (lv' := [(2, .int v15), (0, .ref o), (1, .int p1)]) hx hb dX14_image_78 hl rfl (by rw [ev15]; rfl) (by decide) rfl (fun ls hl => ?_)
        refine lv_goto (tgt := 55) hx hb dX14_image_81 (by decide) ?_
        obtain rfl := some_i hf
        exact hk5 _ _ _ hR hS (lv_sub hl [1, 2, 0] rfl)
    refine whl_walk (P := fun (s4 : Int32 × (Nat → Int32)) => ∀ (H : Heap) (locs : List Loc) (ls : Array Slot), RS G K (ov I [(1100, o, (0 : Int32)), (1122, o, rr1.1)]) J X (ova A [((o + 2), rr1.2), ((o + 5), s4.2), ((o + 9), a_isKept)]) (ova B [((o + 6), b_name), ((o + 8), b_keptName)]) Q H → va_S (gA G) s.heap H locs → lv_has ls 3 [(0, .ref o), (1, .int p1), (2, .int s4.1)] → W p l e ({ frames := 2, cells := 0, slots := 0, locals := 41 } : Room) s m args below meth c H locs 0 0 Z (F0 m 22 ls [])) (r := rl4) ?_ FU _ hw4 _ _ _ hR hS (lv_sub hl [1, 2, 0] rfl)
    clear hR hS hl hf
    intro s4 o4 hf hk4 H locs ls hR hS hl
    obtain ⟨w4_2, w4_a_kept⟩ := s4
    have hf : f14_image_s4 p1 rr1 w4_2 w4_a_kept = some o4 := hf
    have hR : RS G K (ov I [(1100, o, (0 : Int32)), (1122, o, rr1.1)]) J X (ova A [((o + 2), rr1.2), ((o + 5), w4_a_kept), ((o + 9), a_isKept)]) (ova B [((o + 6), b_name), ((o + 8), b_keptName)]) Q H := hR
    have hl : lv_has ls 3 [(0, .ref o), (1, .int p1), (2, .int w4_2)] := hl
    unfold f14_image_s4 at hf
    refine lv_iload_n hx hb dX14_image_22 rfl (lv_at hl 2 rfl) ?_
    refine lv_sipush (v := 800) hx hb dX14_image_23 ls_800 ?_
    refine lv_icmp_ge (tgt := 53) hx hb dX14_image_26 (by decide) (fun c16 => ?_) (fun c16 => ?_)
    · have hf := ite_t c16 hf
      obtain rfl := some_i hf
      replace hk4 : _ = rl4 := hk4
      subst hk4
      exact hx4_0 w4_a_kept hfo4 _ _ _ hR hS (lv_sub hl [0, 1] rfl)
    · have hf := ite_f c16 hf
      refine lv_aload_n hx hb dX14_image_29 rfl (lv_at hl 0 rfl) ?_
      refine g_getr (b := (o + 5)) hx hb hts hown hG hR gFx_X14_22_11 shM.1 ((shM.2 4 _ rfl).2) dX14_image_30 ?_
      refine lv_sipush (v := 800) hx hb dX14_image_33 ls_800 ?_
      refine lv_iload_n hx hb dX14_image_36 rfl (lv_at hl 1 rfl) ?_
      obtain ⟨v17, ev17, hf⟩ := lt_some hf
      refine n_imul hx hb ev17 dX14_image_37 ?_
      refine lv_iload_n hx hb dX14_image_38 rfl (lv_at hl 2 rfl) ?_
      obtain ⟨v18, ev18, hf⟩ := lt_some hf
      refine n_iadd hx hb ev18 dX14_image_39 ?_
      refine lv_aload_n hx hb dX14_image_40 rfl (lv_at hl 0 rfl) ?_
      refine g_getr (b := (o + 2)) hx hb hts hown hG hR gFx_X14_13_11 shM.1 ((shM.2 1 _ rfl).2) dX14_image_41 ?_
      refine lv_iload_n hx hb dX14_image_44 rfl (lv_at hl 2 rfl) ?_
      obtain ⟨c19, hf⟩ := gd_some hf
      obtain ⟨v20, ev20, hf⟩ := lt_some hf
      refine n_iald (x := rr1.2) hx hb hG hR k_a_now c19 (ova_get 0 hN_A rfl) ev20 dX14_image_45 ?_
      obtain ⟨c21, hf⟩ := gd_some hf
      obtain ⟨u22, eu22, hf⟩ := lt_some hf
      refine n_iast (la' := [((o + 2), rr1.2), ((o + 5), u22), ((o + 9), a_isKept)]) hx hb hG hR hS k_a_kept c21 hN_A 1 rfl eu22 rfl dX14_image_46 (fun H locs hR hS => ?_)
      obtain ⟨v23, ev23, hf⟩ := lt_some hf
      refine lv_iinc (k := 2) (v := v23) (lv' := [(2, .int v23), (0, .ref o), (1, .int p1)]) hx hb dX14_image_47 hl rfl (by rw [ev23]; rfl) (by decide) rfl (fun ls hl => ?_)
      refine lv_goto (tgt := 22) hx hb dX14_image_50 (by decide) ?_
      obtain rfl := some_i hf
      exact hk4 _ _ _ hR hS (lv_sub hl [1, 2, 0] rfl)
  · have hf := ite_t c3 hf
    refine lv_iconst (v := 0) hx hb dX14_image_18 li_0 ?_
    obtain rfl := some_i hf
    exact hend _ _ _ _ dX14_image_19 nz_0 hR hS
noncomputable def f14_restore_e8_0 (x8_0 : Int32 × Int32 × Int32 × (Nat → Int32) × (Nat → Int64)) : Option (Int32 × Int32 × Int32 × (Nat → Int32) × (Nat → Int64)) :=
  some x8_0

noncomputable def f14_restore_s8 (p1 : Int32) (b_keptName : Nat → Int64) (rr1 : Int32 × (Nat → Int32)) (x7_0 : (Nat → Int32)) (w8_2 : Int32) (w8_b_name : Nat → Int64) : Option ((Int32 × (Nat → Int64)) ⊕ (Int32 × Int32 × Int32 × (Nat → Int32) × (Nat → Int64))) :=
  if (12 : Int32) ≤ w8_2 then
    some (.inr ((1 : Int32), (0 : Int32), rr1.1, x7_0, w8_b_name))
  else
    lt ((12 : Int32) * p1) fun v10 =>
    lt (v10 + w8_2) fun v11 =>
    gd (inb v11 24) <|
    lt (b_keptName v11.toNatClampNeg) fun v13 =>
    gd (inb w8_2 12) <|
    lt (vp_updL w8_b_name w8_2.toNatClampNeg v13) fun u15 =>
    lt (w8_2 + (1 : Int32)) fun v16 =>
    some (.inl (v16, u15))

noncomputable def f14_restore_e7_0 (p1 : Int32) (b_name : Nat → Int64) (b_keptName : Nat → Int64) (rr1 : Int32 × (Nat → Int32)) (x7_0 : (Nat → Int32)) : Option (Int32 × Int32 × Int32 × (Nat → Int32) × (Nat → Int64)) :=
  (whl (fun (s8 : Int32 × (Nat → Int64)) => f14_restore_s8 p1 b_keptName rr1 x7_0 s8.1 s8.2) FU ((0 : Int32), b_name)).bind fun rl8 =>
  f14_restore_e8_0 rl8

noncomputable def f14_restore_s7 (p1 : Int32) (a_kept : Nat → Int32) (w7_2 : Int32) (w7_a_now : Nat → Int32) : Option ((Int32 × (Nat → Int32)) ⊕ ((Nat → Int32))) :=
  if (800 : Int32) ≤ w7_2 then
    some (.inr w7_a_now)
  else
    lt ((800 : Int32) * p1) fun v18 =>
    lt (v18 + w7_2) fun v19 =>
    gd (inb v19 1600) <|
    lt (a_kept v19.toNatClampNeg) fun v21 =>
    gd (inb w7_2 800) <|
    lt (upd w7_a_now w7_2.toNatClampNeg v21) fun u23 =>
    lt (w7_2 + (1 : Int32)) fun v24 =>
    some (.inl (v24, u23))

noncomputable def f14_restore (p1 : Int32) (i_thrown : Int32) (i_isBegun : Int32) (a_now : Nat → Int32) (a_kept : Nat → Int32) (a_isKept : Nat → Int32) (b_name : Nat → Int64) (b_keptName : Nat → Int64) : Option (Int32 × Int32 × Int32 × (Nat → Int32) × (Nat → Int64)) :=
  (f14_lay i_isBegun a_now).bind fun rr1 =>
  (f14_isIn p1 (0 : Int32) (1 : Int32)).bind fun rr2 =>
  if rr2 = 0 then
    some ((0 : Int32), (0 : Int32), rr1.1, rr1.2, b_name)
  else
    gd (inb p1 2) <|
    lt (a_isKept p1.toNatClampNeg) fun v5 =>
    if v5 = 0 then
      some ((0 : Int32), (0 : Int32), rr1.1, rr1.2, b_name)
    else
      (whl (fun (s7 : Int32 × (Nat → Int32)) => f14_restore_s7 p1 a_kept s7.1 s7.2) FU ((0 : Int32), rr1.2)).bind fun rl7 =>
      f14_restore_e7_0 p1 b_name b_keptName rr1 rl7
set_option maxHeartbeats 4000000 in
theorem m14_restore (l : Launch) (G : gG) (K : gK) (I : gI) (J : gJ) (X : gX) (A : gI) (B : gJ) (Q : gX) (o : Nat) (shM : Sh K X o 11 rows11) (p1 : Int32) (i_thrown : Int32) (i_isBegun : Int32) (a_now : Nat → Int32) (a_kept : Nat → Int32) (a_isKept : Nat → Int32) (b_name : Nat → Int64) (b_keptName : Nat → Int64) (e_i_thrown : I 1100 o = i_thrown) (e_i_isBegun : I 1122 o = i_isBegun) (e_a_now : A (o + 2) = a_now) (e_a_kept : A (o + 5) = a_kept) (e_a_isKept : A (o + 9) = a_isKept) (e_b_name : B (o + 6) = b_name) (e_b_keptName : B (o + 8) = b_keptName) (out : Int32 × Int32 × Int32 × (Nat → Int32) × (Nat → Int64)) (hf : f14_restore p1 i_thrown i_isBegun a_now a_kept a_isKept b_name b_keptName = some out) : GMet l yX14_restore cX14_restore 3 (some .boolean) (2) (41) G [.ref o, .int p1] K I J X A B Q (some (.int out.1)) K (ov I [(1100, o, out.2.1), (1122, o, out.2.2.1)]) J X (ova A [((o + 2), out.2.2.2.1), ((o + 5), a_kept), ((o + 9), a_isKept)]) (ova B [((o + 6), out.2.2.2.2), ((o + 8), b_keptName)]) Q 0 0 := by
  refine GMet.of (y := yX14_restore) rfl (Nat.le_of_ble_eq_true rfl) rfl ?_
  intro p e s m below meth c ls hx hb hr hml hlocks hts hown hname hG hR hl
  have hown : s.vm.findClass RX14 = some m.cls := hown
  have k_a_now : K (o + 2) = some (.inr (0, 800)) := (shM.2 1 _ rfl).1
  have k_a_kept : K (o + 5) = some (.inr (0, 1600)) := (shM.2 4 _ rfl).1
  have k_a_isKept : K (o + 9) = some (.inr (1, 2)) := (shM.2 8 _ rfl).1
  have k_b_name : K (o + 6) = some (.inr (3, 12)) := (shM.2 5 _ rfl).1
  have k_b_keptName : K (o + 8) = some (.inr (3, 24)) := (shM.2 7 _ rfl).1
  have hN_A : nda [(o + 2), (o + 5), (o + 9)] := nd_off o [2, 5, 9] rfl
  have hN_B : nda [(o + 6), (o + 8)] := nd_off o [6, 8] rfl
  have hR : RS G K (ov I [(1100, o, i_thrown), (1122, o, i_isBegun)]) J X (ova A [((o + 2), a_now), ((o + 5), a_kept), ((o + 9), a_isKept)]) (ova B [((o + 6), b_name), ((o + 8), b_keptName)]) Q s.heap := hR.to (Eq.symm (ov_sc e_i_thrown (ov_sc e_i_isBegun rfl))) rfl rfl (Eq.symm (ova_sc e_a_now (ova_sc e_a_kept (ova_sc e_a_isKept rfl)))) (Eq.symm (ova_sc e_b_name (ova_sc e_b_keptName rfl))) rfl
  have hS : va_S (gA G) s.heap s.heap [] := va_S.rf
  have hend : ∀ (pc : Nat) (H : Heap) (locs : List Loc) (ls : Array Slot), decode cX14_restore pc = .ok (.ireturn, 1) → narrow .boolean (.int out.1) = .int out.1 → RS G K (ov I [(1100, o, out.2.1), (1122, o, out.2.2.1)]) J X (ova A [((o + 2), out.2.2.2.1), ((o + 5), a_kept), ((o + 9), a_isKept)]) (ova B [((o + 6), out.2.2.2.2), ((o + 8), b_keptName)]) Q H → va_S (gA G) s.heap H locs → W p l e ({ frames := 2, cells := 0, slots := 0, locals := 41 } : Room) s m ([.ref o, .int p1] : List Value).toArray below meth c H locs 0 0 (MQ below (gQ G (some (.int out.1)) K (ov I [(1100, o, out.2.1), (1122, o, out.2.2.1)]) J X (ova A [((o + 2), out.2.2.2.1), ((o + 5), a_kept), ((o + 9), a_isKept)]) (ova B [((o + 6), out.2.2.2.2), ((o + 8), b_keptName)]) Q) ([.ref o, .int p1] : List Value).toArray s 0 0 (gA G)) (F0 m pc ls [.int out.1]) := fun pc H locs ls hd hz hR hS => g_zret hx hb hr hlocks hz hG hR hS rfl hd
  generalize MQ below (gQ G (some (.int out.1)) K (ov I [(1100, o, out.2.1), (1122, o, out.2.2.1)]) J X (ova A [((o + 2), out.2.2.2.1), ((o + 5), a_kept), ((o + 9), a_isKept)]) (ova B [((o + 6), out.2.2.2.2), ((o + 8), b_keptName)]) Q) ([.ref o, .int p1] : List Value).toArray s 0 0 (gA G) = Z at hend ⊢
  generalize ([.ref o, .int p1] : List Value).toArray = args at hts hend ⊢
  unfold f14_restore at hf
  refine lv_aload_n hx hb dX14_restore_0 rfl (lv_at hl 0 rfl) ?_
  refine lv_iconst (v := 0) hx hb dX14_restore_1 li_0 ?_
  refine n_puti (li' := [(1100, o, (0 : Int32)), (1122, o, i_isBegun)]) hx hb hts hown hG hR hS gPi_X14_148_11 shM.1 0 rfl rfl rfl dX14_restore_2 (fun H locs hR hS => ?_)
  refine lv_aload_n hx hb dX14_restore_5 rfl (lv_at hl 0 rfl) ?_
  obtain ⟨rr1, hrr1, hf⟩ := bind_s hf
  refine g0_cVv (rm := (1, 21)) (As := []) (rest := []) ⟨hx, hb, hml, hown, hts⟩ hG hR hS (m14_lay l G K (ov I [(1100, o, (0 : Int32)), (1122, o, i_isBegun)]) J X (ova A [((o + 2), a_now), ((o + 5), a_kept), ((o + 9), a_isKept)]) (ova B [((o + 6), b_name), ((o + 8), b_keptName)]) Q o shM i_isBegun a_now (ov_get 1 rfl rfl) (ova_get 0 hN_A rfl) rr1 hrr1) (cwV 0 hts gi_X14_232 rfl rfl rfl hd_X14_lay ⟨Nat.le_of_ble_eq_true rfl, Nat.le_of_ble_eq_true rfl⟩) shM.1 rfl rfl hl.1 (Nat.le_of_ble_eq_true rfl) dX14_restore_6 ⟨Nat.le_refl _, Nat.le_refl _⟩ rfl (fun H locs hR hS => ?_)
  have hR : RS G K (ov I [(1100, o, (0 : Int32)), (1122, o, rr1.1)]) J X (ova A [((o + 2), rr1.2), ((o + 5), a_kept), ((o + 9), a_isKept)]) (ova B [((o + 6), b_name), ((o + 8), b_keptName)]) Q H := hR.to (ov_merge (l := [(1100, o, (0 : Int32)), (1122, o, i_isBegun)]) rfl [1] [(1122, o, rr1.1)] rfl rfl) rfl rfl (ova_merge (l := [((o + 2), a_now), ((o + 5), a_kept), ((o + 9), a_isKept)]) hN_A [0] [((o + 2), rr1.2)] rfl rfl) rfl rfl
  refine lv_iload_n hx hb dX14_restore_9 rfl (lv_at hl 1 rfl) ?_
  refine lv_iconst (v := 0) hx hb dX14_restore_10 li_0 ?_
  refine lv_iconst (v := 1) hx hb dX14_restore_11 li_1 ?_
  obtain ⟨rr2, hrr2, hf⟩ := bind_s hf
  refine g0_cS (rm := (0, 0)) (As := [.int p1, .int (0 : Int32), .int (1 : Int32)]) (rest := []) ⟨hx, hb, hml, hown, hts⟩ hG hR hS (m14_isIn l G K (ov I [(1100, o, (0 : Int32)), (1122, o, rr1.1)]) J X (ova A [((o + 2), rr1.2), ((o + 5), a_kept), ((o + 9), a_isKept)]) (ova B [((o + 6), b_name), ((o + 8), b_keptName)]) Q p1 (0 : Int32) (1 : Int32) rr2 hrr2) (cwS 3 hts gi_X14_219 rfl rfl rfl hd_X14_isIn ⟨Nat.le_of_ble_eq_true rfl, Nat.le_of_ble_eq_true rfl⟩) rfl hl.1 (Nat.le_of_ble_eq_true rfl) dX14_restore_12 ⟨Nat.le_refl _, Nat.le_refl _⟩ rfl (fun H locs hR hS => ?_)
  refine lv_if_eq (tgt := 27) hx hb dX14_restore_15 (by decide) (fun c3 => ?_) (fun c3 => ?_)
  · have hf := ite_t c3 hf
    refine lv_iconst (v := 0) hx hb dX14_restore_27 li_0 ?_
    obtain rfl := some_i hf
    exact hend _ _ _ _ dX14_restore_28 nz_0 hR hS
  · have hf := ite_f c3 hf
    refine lv_aload_n hx hb dX14_restore_18 rfl (lv_at hl 0 rfl) ?_
    refine g_getr (b := (o + 9)) hx hb hts hown hG hR gFx_X14_35_11 shM.1 ((shM.2 8 _ rfl).2) dX14_restore_19 ?_
    refine lv_iload_n hx hb dX14_restore_22 rfl (lv_at hl 1 rfl) ?_
    obtain ⟨c4, hf⟩ := gd_some hf
    obtain ⟨v5, ev5, hf⟩ := lt_some hf
    refine n_zald (x := a_isKept) hx hb hG hR k_a_isKept c4 (ova_get 2 hN_A rfl) ev5 dX14_restore_23 ?_
    refine lv_if_ne (tgt := 29) hx hb dX14_restore_24 (by decide) (fun c6 => ?_) (fun c6 => ?_)
    · have hf := ite_f c6 hf
      refine lv_iconst (v := 0) hx hb dX14_restore_29 li_0 ?_
      refine lv_istore_n (lv' := [(2, .int (0 : Int32)), (0, .ref o), (1, .int p1)]) hx hb dX14_restore_30 rfl hl (by decide) rfl (fun ls hl => ?_)
      obtain ⟨rl7, hw7, hfo7⟩ := bind_s hf
      have hx7_0 : ∀ (x7_0 : (Nat → Int32)), f14_restore_e7_0 p1 b_name b_keptName rr1 x7_0 = some out → ∀ (H : Heap) (locs : List Loc) (ls : Array Slot), RS G K (ov I [(1100, o, (0 : Int32)), (1122, o, rr1.1)]) J X (ova A [((o + 2), x7_0), ((o + 5), a_kept), ((o + 9), a_isKept)]) (ova B [((o + 6), b_name), ((o + 8), b_keptName)]) Q H → va_S (gA G) s.heap H locs → lv_has ls 3 [(0, .ref o), (1, .int p1)] → W p l e ({ frames := 2, cells := 0, slots := 0, locals := 41 } : Room) s m args below meth c H locs 0 0 Z (F0 m 62 ls []) := by
        intro x7_0 hf H locs ls hR hS hl
        unfold f14_restore_e7_0 at hf
        refine lv_iconst (v := 0) hx hb dX14_restore_62 li_0 ?_
        refine lv_istore_n (lv' := [(2, .int (0 : Int32)), (0, .ref o), (1, .int p1)]) hx hb dX14_restore_63 rfl hl (by decide) rfl (fun ls hl => ?_)
        obtain ⟨rl8, hw8, hfo8⟩ := bind_s hf
        have hx8_0 : ∀ (x8_0 : Int32 × Int32 × Int32 × (Nat → Int32) × (Nat → Int64)), f14_restore_e8_0 x8_0 = some out → ∀ (pc : Nat) (H : Heap) (locs : List Loc) (ls : Array Slot), decode cX14_restore pc = .ok (.ireturn, 1) → narrow .boolean (.int x8_0.1) = .int x8_0.1 → RS G K (ov I [(1100, o, x8_0.2.1), (1122, o, x8_0.2.2.1)]) J X (ova A [((o + 2), x8_0.2.2.2.1), ((o + 5), a_kept), ((o + 9), a_isKept)]) (ova B [((o + 6), x8_0.2.2.2.2), ((o + 8), b_keptName)]) Q H → va_S (gA G) s.heap H locs → W p l e ({ frames := 2, cells := 0, slots := 0, locals := 41 } : Room) s m args below meth c H locs 0 0 Z (F0 m pc ls [.int x8_0.1]) := by
          intro x8_0 hf pc H locs ls hd hz hR hS
          unfold f14_restore_e8_0 at hf
          obtain rfl := some_i hf
          exact hend _ _ _ _ hd hz hR hS
        refine whl_walk (P := fun (s8 : Int32 × (Nat → Int64)) => ∀ (H : Heap) (locs : List Loc) (ls : Array Slot), RS G K (ov I [(1100, o, (0 : Int32)), (1122, o, rr1.1)]) J X (ova A [((o + 2), x7_0), ((o + 5), a_kept), ((o + 9), a_isKept)]) (ova B [((o + 6), s8.2), ((o + 8), b_keptName)]) Q H → va_S (gA G) s.heap H locs → lv_has ls 3 [(0, .ref o), (1, .int p1), (2, .int s8.1)] → W p l e ({ frames := 2, cells := 0, slots := 0, locals := 41 } : Room) s m args below meth c H locs 0 0 Z (F0 m 64 ls [])) (r := rl8) ?_ FU _ hw8 _ _ _ hR hS (lv_sub hl [1, 2, 0] rfl)
        clear hR hS hl hf
        intro s8 o8 hf hk8 H locs ls hR hS hl
        obtain ⟨w8_2, w8_b_name⟩ := s8
        have hf : f14_restore_s8 p1 b_keptName rr1 x7_0 w8_2 w8_b_name = some o8 := hf
        have hR : RS G K (ov I [(1100, o, (0 : Int32)), (1122, o, rr1.1)]) J X (ova A [((o + 2), x7_0), ((o + 5), a_kept), ((o + 9), a_isKept)]) (ova B [((o + 6), w8_b_name), ((o + 8), b_keptName)]) Q H := hR
        have hl : lv_has ls 3 [(0, .ref o), (1, .int p1), (2, .int w8_2)] := hl
        unfold f14_restore_s8 at hf
        refine lv_iload_n hx hb dX14_restore_64 rfl (lv_at hl 2 rfl) ?_
        refine lv_bipush (v := 12) hx hb dX14_restore_65 lb_12 ?_
        refine lv_icmp_ge (tgt := 93) hx hb dX14_restore_67 (by decide) (fun c9 => ?_) (fun c9 => ?_)
        · have hf := ite_t c9 hf
          refine lv_iconst (v := 1) hx hb dX14_restore_93 li_1 ?_
          obtain rfl := some_i hf
          replace hk8 : _ = rl8 := hk8
          subst hk8
          exact hx8_0 ((1 : Int32), (0 : Int32), rr1.1, x7_0, w8_b_name) hfo8 _ _ _ _ dX14_restore_94 nz_1 hR hS
        · have hf := ite_f c9 hf
          refine lv_aload_n hx hb dX14_restore_70 rfl (lv_at hl 0 rfl) ?_
          refine g_getr (b := (o + 6)) hx hb hts hown hG hR gFx_X14_25_11 shM.1 ((shM.2 5 _ rfl).2) dX14_restore_71 ?_
          refine lv_iload_n hx hb dX14_restore_74 rfl (lv_at hl 2 rfl) ?_
          refine lv_aload_n hx hb dX14_restore_75 rfl (lv_at hl 0 rfl) ?_
          refine g_getr (b := (o + 8)) hx hb hts hown hG hR gFx_X14_32_11 shM.1 ((shM.2 7 _ rfl).2) dX14_restore_76 ?_
          refine lv_bipush (v := 12) hx hb dX14_restore_79 lb_12 ?_
          refine lv_iload_n hx hb dX14_restore_81 rfl (lv_at hl 1 rfl) ?_
          obtain ⟨v10, ev10, hf⟩ := lt_some hf
          refine n_imul hx hb ev10 dX14_restore_82 ?_
          refine lv_iload_n hx hb dX14_restore_83 rfl (lv_at hl 2 rfl) ?_
          obtain ⟨v11, ev11, hf⟩ := lt_some hf
          refine n_iadd hx hb ev11 dX14_restore_84 ?_
          obtain ⟨c12, hf⟩ := gd_some hf
          obtain ⟨v13, ev13, hf⟩ := lt_some hf
          refine n_lald (x := b_keptName) hx hb hG hR k_b_keptName c12 (ova_get 1 hN_B rfl) ev13 dX14_restore_85 ?_
          obtain ⟨c14, hf⟩ := gd_some hf
          obtain ⟨u15, eu15, hf⟩ := lt_some hf
          refine n_last (la' := [((o + 6), u15), ((o + 8), b_keptName)]) hx hb hG hR hS k_b_name c14 hN_B 0 rfl eu15 rfl dX14_restore_86 (fun H locs hR hS => ?_)
          obtain ⟨v16, ev16, hf⟩ := lt_some hf
          refine lv_iinc (k := 2) (v := v16) (lv' := [(2, .int v16), (0, .ref o), (1, .int p1)]) hx hb dX14_restore_87 hl rfl (by rw [ev16]; rfl) (by decide) rfl (fun ls hl => ?_)
          refine lv_goto (tgt := 64) hx hb dX14_restore_90 (by decide) ?_
          obtain rfl := some_i hf
          exact hk8 _ _ _ hR hS (lv_sub hl [1, 2, 0] rfl)
      refine whl_walk (P := fun (s7 : Int32 × (Nat → Int32)) => ∀ (H : Heap) (locs : List Loc) (ls : Array Slot), RS G K (ov I [(1100, o, (0 : Int32)), (1122, o, rr1.1)]) J X (ova A [((o + 2), s7.2), ((o + 5), a_kept), ((o + 9), a_isKept)]) (ova B [((o + 6), b_name), ((o + 8), b_keptName)]) Q H → va_S (gA G) s.heap H locs → lv_has ls 3 [(0, .ref o), (1, .int p1), (2, .int s7.1)] → W p l e ({ frames := 2, cells := 0, slots := 0, locals := 41 } : Room) s m args below meth c H locs 0 0 Z (F0 m 31 ls [])) (r := rl7) ?_ FU _ hw7 _ _ _ hR hS (lv_sub hl [1, 2, 0] rfl)
      clear hR hS hl hf
      intro s7 o7 hf hk7 H locs ls hR hS hl
      obtain ⟨w7_2, w7_a_now⟩ := s7
      have hf : f14_restore_s7 p1 a_kept w7_2 w7_a_now = some o7 := hf
      have hR : RS G K (ov I [(1100, o, (0 : Int32)), (1122, o, rr1.1)]) J X (ova A [((o + 2), w7_a_now), ((o + 5), a_kept), ((o + 9), a_isKept)]) (ova B [((o + 6), b_name), ((o + 8), b_keptName)]) Q H := hR
      have hl : lv_has ls 3 [(0, .ref o), (1, .int p1), (2, .int w7_2)] := hl
      unfold f14_restore_s7 at hf
      refine lv_iload_n hx hb dX14_restore_31 rfl (lv_at hl 2 rfl) ?_
      refine lv_sipush (v := 800) hx hb dX14_restore_32 ls_800 ?_
      refine lv_icmp_ge (tgt := 62) hx hb dX14_restore_35 (by decide) (fun c17 => ?_) (fun c17 => ?_)
      · have hf := ite_t c17 hf
        obtain rfl := some_i hf
        replace hk7 : _ = rl7 := hk7
        subst hk7
        exact hx7_0 w7_a_now hfo7 _ _ _ hR hS (lv_sub hl [0, 1] rfl)
      · have hf := ite_f c17 hf
        refine lv_aload_n hx hb dX14_restore_38 rfl (lv_at hl 0 rfl) ?_
        refine g_getr (b := (o + 2)) hx hb hts hown hG hR gFx_X14_13_11 shM.1 ((shM.2 1 _ rfl).2) dX14_restore_39 ?_
        refine lv_iload_n hx hb dX14_restore_42 rfl (lv_at hl 2 rfl) ?_
        refine lv_aload_n hx hb dX14_restore_43 rfl (lv_at hl 0 rfl) ?_
        refine g_getr (b := (o + 5)) hx hb hts hown hG hR gFx_X14_22_11 shM.1 ((shM.2 4 _ rfl).2) dX14_restore_44 ?_
        refine lv_sipush (v := 800) hx hb dX14_restore_47 ls_800 ?_
        refine lv_iload_n hx hb dX14_restore_50 rfl (lv_at hl 1 rfl) ?_
        obtain ⟨v18, ev18, hf⟩ := lt_some hf
        refine n_imul hx hb ev18 dX14_restore_51 ?_
        refine lv_iload_n hx hb dX14_restore_52 rfl (lv_at hl 2 rfl) ?_
        obtain ⟨v19, ev19, hf⟩ := lt_some hf
        refine n_iadd hx hb ev19 dX14_restore_53 ?_
        obtain ⟨c20, hf⟩ := gd_some hf
        obtain ⟨v21, ev21, hf⟩ := lt_some hf
        refine n_iald (x := a_kept) hx hb hG hR k_a_kept c20 (ova_get 1 hN_A rfl) ev21 dX14_restore_54 ?_
        obtain ⟨c22, hf⟩ := gd_some hf
        obtain ⟨u23, eu23, hf⟩ := lt_some hf
        refine n_iast (la' := [((o + 2), u23), ((o + 5), a_kept), ((o + 9), a_isKept)]) hx hb hG hR hS k_a_now c22 hN_A 0 rfl eu23 rfl dX14_restore_55 (fun H locs hR hS => ?_)
        obtain ⟨v24, ev24, hf⟩ := lt_some hf
        refine lv_iinc (k := 2) (v := v24) (lv' := [(2, .int v24), (0, .ref o), (1, .int p1)]) hx hb dX14_restore_56 hl rfl (by rw [ev24]; rfl) (by decide) rfl (fun ls hl => ?_)
        refine lv_goto (tgt := 31) hx hb dX14_restore_59 (by decide) ?_
        obtain rfl := some_i hf
        exact hk7 _ _ _ hR hS (lv_sub hl [1, 2, 0] rfl)
    · have hf := ite_t c6 hf
      refine lv_iconst (v := 0) hx hb dX14_restore_27 li_0 ?_
      obtain rfl := some_i hf
      exact hend _ _ _ _ dX14_restore_28 nz_0 hR hS
noncomputable def f14_count (p1 : Int32) (i_thrown : Int32) (i_taped : Int32) (i_isBegun : Int32) (a_now : Nat → Int32) : Option (Int32 × Int32 × Int32 × (Nat → Int32)) :=
  (f14_lay i_isBegun a_now).bind fun rr1 =>
  if p1 = 0 then
    (f14_men rr1.2).bind fun rr3 =>
    some (rr3, (0 : Int32), rr1.1, rr1.2)
  else
  if p1 = 1 then
    (f14_columns rr1.2).bind fun rr5 =>
    some (rr5, (0 : Int32), rr1.1, rr1.2)
  else
  if p1 = 2 then
    gd (inb (10 : Int32) 800) <|
    lt (rr1.2 (10 : Int32).toNatClampNeg) fun v8 =>
    some (v8, (0 : Int32), rr1.1, rr1.2)
  else
  if p1 = 3 then
    gd (inb (2 : Int32) 800) <|
    lt (rr1.2 (2 : Int32).toNatClampNeg) fun v11 =>
    some (v11, (0 : Int32), rr1.1, rr1.2)
  else
  if p1 = 4 then
    gd (inb (200 : Int32) 800) <|
    lt (rr1.2 (200 : Int32).toNatClampNeg) fun v14 =>
    some (v14, (0 : Int32), rr1.1, rr1.2)
  else
  if p1 = 5 then
    some (i_taped, (0 : Int32), rr1.1, rr1.2)
  else
  if p1 = 6 then
    gd (inb (1 : Int32) 800) <|
    lt (rr1.2 (1 : Int32).toNatClampNeg) fun v18 =>
    some (v18, (0 : Int32), rr1.1, rr1.2)
  else
  some ((-1 : Int32), (0 : Int32), rr1.1, rr1.2)
set_option maxHeartbeats 4000000 in
theorem m14_count (l : Launch) (G : gG) (K : gK) (I : gI) (J : gJ) (X : gX) (A : gI) (B : gJ) (Q : gX) (o : Nat) (shM : Sh K X o 11 rows11) (p1 : Int32) (i_thrown : Int32) (i_taped : Int32) (i_isBegun : Int32) (a_now : Nat → Int32) (e_i_thrown : I 1100 o = i_thrown) (e_i_taped : I 1102 o = i_taped) (e_i_isBegun : I 1122 o = i_isBegun) (e_a_now : A (o + 2) = a_now) (out : Int32 × Int32 × Int32 × (Nat → Int32)) (hf : f14_count p1 i_thrown i_taped i_isBegun a_now = some out) : GMet l yX14_count cX14_count 2 (some .int) (2) (41) G [.ref o, .int p1] K I J X A B Q (some (.int out.1)) K (ov I [(1100, o, out.2.1), (1122, o, out.2.2.1)]) J X (ova A [((o + 2), out.2.2.2)]) B Q 0 0 := by
  refine GMet.of (y := yX14_count) rfl (Nat.le_of_ble_eq_true rfl) rfl ?_
  intro p e s m below meth c ls hx hb hr hml hlocks hts hown hname hG hR hl
  have hown : s.vm.findClass RX14 = some m.cls := hown
  have k_a_now : K (o + 2) = some (.inr (0, 800)) := (shM.2 1 _ rfl).1
  have hN_A : nda [(o + 2)] := nd_off o [2] rfl
  have hR : RS G K (ov I [(1100, o, i_thrown), (1122, o, i_isBegun)]) J X (ova A [((o + 2), a_now)]) B Q s.heap := hR.to (Eq.symm (ov_sc e_i_thrown (ov_sc e_i_isBegun rfl))) rfl rfl (Eq.symm (ova_sc e_a_now rfl)) rfl rfl
  have hS : va_S (gA G) s.heap s.heap [] := va_S.rf
  have hend : ∀ (pc : Nat) (H : Heap) (locs : List Loc) (ls : Array Slot), decode cX14_count pc = .ok (.ireturn, 1) → RS G K (ov I [(1100, o, out.2.1), (1122, o, out.2.2.1)]) J X (ova A [((o + 2), out.2.2.2)]) B Q H → va_S (gA G) s.heap H locs → W p l e ({ frames := 2, cells := 0, slots := 0, locals := 41 } : Room) s m ([.ref o, .int p1] : List Value).toArray below meth c H locs 0 0 (MQ below (gQ G (some (.int out.1)) K (ov I [(1100, o, out.2.1), (1122, o, out.2.2.1)]) J X (ova A [((o + 2), out.2.2.2)]) B Q) ([.ref o, .int p1] : List Value).toArray s 0 0 (gA G)) (F0 m pc ls [.int out.1]) := fun pc H locs ls hd hR hS => g_iret hx hb hr hlocks hG hR hS rfl hd
  generalize MQ below (gQ G (some (.int out.1)) K (ov I [(1100, o, out.2.1), (1122, o, out.2.2.1)]) J X (ova A [((o + 2), out.2.2.2)]) B Q) ([.ref o, .int p1] : List Value).toArray s 0 0 (gA G) = Z at hend ⊢
  generalize ([.ref o, .int p1] : List Value).toArray = args at hts hend ⊢
  unfold f14_count at hf
  refine lv_aload_n hx hb dX14_count_0 rfl (lv_at hl 0 rfl) ?_
  refine lv_iconst (v := 0) hx hb dX14_count_1 li_0 ?_
  refine n_puti (li' := [(1100, o, (0 : Int32)), (1122, o, i_isBegun)]) hx hb hts hown hG hR hS gPi_X14_148_11 shM.1 0 rfl rfl rfl dX14_count_2 (fun H locs hR hS => ?_)
  refine lv_aload_n hx hb dX14_count_5 rfl (lv_at hl 0 rfl) ?_
  obtain ⟨rr1, hrr1, hf⟩ := bind_s hf
  refine g0_cVv (rm := (1, 21)) (As := []) (rest := []) ⟨hx, hb, hml, hown, hts⟩ hG hR hS (m14_lay l G K (ov I [(1100, o, (0 : Int32)), (1122, o, i_isBegun)]) J X (ova A [((o + 2), a_now)]) B Q o shM i_isBegun a_now (ov_get 1 rfl rfl) (ova_get 0 hN_A rfl) rr1 hrr1) (cwV 0 hts gi_X14_232 rfl rfl rfl hd_X14_lay ⟨Nat.le_of_ble_eq_true rfl, Nat.le_of_ble_eq_true rfl⟩) shM.1 rfl rfl hl.1 (Nat.le_of_ble_eq_true rfl) dX14_count_6 ⟨Nat.le_refl _, Nat.le_refl _⟩ rfl (fun H locs hR hS => ?_)
  have hR : RS G K (ov I [(1100, o, (0 : Int32)), (1122, o, rr1.1)]) J X (ova A [((o + 2), rr1.2)]) B Q H := hR.to (ov_merge (l := [(1100, o, (0 : Int32)), (1122, o, i_isBegun)]) rfl [1] [(1122, o, rr1.1)] rfl rfl) rfl rfl (ova_merge (l := [((o + 2), a_now)]) hN_A [0] [((o + 2), rr1.2)] rfl rfl) rfl rfl
  refine lv_iload_n hx hb dX14_count_9 rfl (lv_at hl 1 rfl) ?_
  by_cases c2 : p1 = 0
  · have hf := ite_t c2 hf
    refine lv_tableIn (tgt := 52) hx hb dX14_count_10 (by rw [c2]; decide) (by rw [c2]; decide) (off := 42) (by rw [c2]; rfl) (by decide) ?_
    refine lv_aload_n hx hb dX14_count_52 rfl (lv_at hl 0 rfl) ?_
    obtain ⟨rr3, hrr3, hf⟩ := bind_s hf
    refine g0_cV (rm := (0, 0)) (As := []) (rest := []) ⟨hx, hb, hml, hown, hts⟩ hG hR hS (m14_men l G K (ov I [(1100, o, (0 : Int32)), (1122, o, rr1.1)]) J X (ova A [((o + 2), rr1.2)]) B Q o shM rr1.2 (ova_get 0 hN_A rfl) rr3 hrr3) (cwV 0 hts gi_X14_288 rfl rfl rfl hd_X14_men ⟨Nat.le_of_ble_eq_true rfl, Nat.le_of_ble_eq_true rfl⟩) shM.1 rfl rfl hl.1 (Nat.le_of_ble_eq_true rfl) dX14_count_53 ⟨Nat.le_refl _, Nat.le_refl _⟩ rfl (fun H locs hR hS => ?_)
    obtain rfl := some_i hf
    exact hend _ _ _ _ dX14_count_56 hR hS
  have hf := ite_f c2 hf
  by_cases c4 : p1 = 1
  · have hf := ite_t c4 hf
    refine lv_tableIn (tgt := 57) hx hb dX14_count_10 (by rw [c4]; decide) (by rw [c4]; decide) (off := 47) (by rw [c4]; rfl) (by decide) ?_
    refine lv_aload_n hx hb dX14_count_57 rfl (lv_at hl 0 rfl) ?_
    obtain ⟨rr5, hrr5, hf⟩ := bind_s hf
    refine g0_cV (rm := (0, 0)) (As := []) (rest := []) ⟨hx, hb, hml, hown, hts⟩ hG hR hS (m14_columns l G K (ov I [(1100, o, (0 : Int32)), (1122, o, rr1.1)]) J X (ova A [((o + 2), rr1.2)]) B Q o shM rr1.2 (ova_get 0 hN_A rfl) rr5 hrr5) (cwV 0 hts gi_X14_298 rfl rfl rfl hd_X14_columns ⟨Nat.le_of_ble_eq_true rfl, Nat.le_of_ble_eq_true rfl⟩) shM.1 rfl rfl hl.1 (Nat.le_of_ble_eq_true rfl) dX14_count_58 ⟨Nat.le_refl _, Nat.le_refl _⟩ rfl (fun H locs hR hS => ?_)
    obtain rfl := some_i hf
    exact hend _ _ _ _ dX14_count_61 hR hS
  have hf := ite_f c4 hf
  by_cases c6 : p1 = 2
  · have hf := ite_t c6 hf
    refine lv_tableIn (tgt := 62) hx hb dX14_count_10 (by rw [c6]; decide) (by rw [c6]; decide) (off := 52) (by rw [c6]; rfl) (by decide) ?_
    refine lv_aload_n hx hb dX14_count_62 rfl (lv_at hl 0 rfl) ?_
    refine g_getr (b := (o + 2)) hx hb hts hown hG hR gFx_X14_13_11 shM.1 ((shM.2 1 _ rfl).2) dX14_count_63 ?_
    refine lv_bipush (v := 10) hx hb dX14_count_66 lb_10 ?_
    obtain ⟨c7, hf⟩ := gd_some hf
    obtain ⟨v8, ev8, hf⟩ := lt_some hf
    refine n_iald (x := rr1.2) hx hb hG hR k_a_now c7 (ova_get 0 hN_A rfl) ev8 dX14_count_68 ?_
    obtain rfl := some_i hf
    exact hend _ _ _ _ dX14_count_69 hR hS
  have hf := ite_f c6 hf
  by_cases c9 : p1 = 3
  · have hf := ite_t c9 hf
    refine lv_tableIn (tgt := 70) hx hb dX14_count_10 (by rw [c9]; decide) (by rw [c9]; decide) (off := 60) (by rw [c9]; rfl) (by decide) ?_
    refine lv_aload_n hx hb dX14_count_70 rfl (lv_at hl 0 rfl) ?_
    refine g_getr (b := (o + 2)) hx hb hts hown hG hR gFx_X14_13_11 shM.1 ((shM.2 1 _ rfl).2) dX14_count_71 ?_
    refine lv_iconst (v := 2) hx hb dX14_count_74 li_2 ?_
    obtain ⟨c10, hf⟩ := gd_some hf
    obtain ⟨v11, ev11, hf⟩ := lt_some hf
    refine n_iald (x := rr1.2) hx hb hG hR k_a_now c10 (ova_get 0 hN_A rfl) ev11 dX14_count_75 ?_
    obtain rfl := some_i hf
    exact hend _ _ _ _ dX14_count_76 hR hS
  have hf := ite_f c9 hf
  by_cases c12 : p1 = 4
  · have hf := ite_t c12 hf
    refine lv_tableIn (tgt := 77) hx hb dX14_count_10 (by rw [c12]; decide) (by rw [c12]; decide) (off := 67) (by rw [c12]; rfl) (by decide) ?_
    refine lv_aload_n hx hb dX14_count_77 rfl (lv_at hl 0 rfl) ?_
    refine g_getr (b := (o + 2)) hx hb hts hown hG hR gFx_X14_13_11 shM.1 ((shM.2 1 _ rfl).2) dX14_count_78 ?_
    refine lv_sipush (v := 200) hx hb dX14_count_81 ls_200 ?_
    obtain ⟨c13, hf⟩ := gd_some hf
    obtain ⟨v14, ev14, hf⟩ := lt_some hf
    refine n_iald (x := rr1.2) hx hb hG hR k_a_now c13 (ova_get 0 hN_A rfl) ev14 dX14_count_84 ?_
    obtain rfl := some_i hf
    exact hend _ _ _ _ dX14_count_85 hR hS
  have hf := ite_f c12 hf
  by_cases c15 : p1 = 5
  · have hf := ite_t c15 hf
    refine lv_tableIn (tgt := 86) hx hb dX14_count_10 (by rw [c15]; decide) (by rw [c15]; decide) (off := 76) (by rw [c15]; rfl) (by decide) ?_
    refine lv_aload_n hx hb dX14_count_86 rfl (lv_at hl 0 rfl) ?_
    refine n_geti (v := i_taped) hx hb hts hown hG hR gFi_X14_151_11 shM.1 ((congrFun (ov_no rfl) _).trans e_i_taped) dX14_count_87 ?_
    obtain rfl := some_i hf
    exact hend _ _ _ _ dX14_count_90 hR hS
  have hf := ite_f c15 hf
  by_cases c16 : p1 = 6
  · have hf := ite_t c16 hf
    refine lv_tableIn (tgt := 91) hx hb dX14_count_10 (by rw [c16]; decide) (by rw [c16]; decide) (off := 81) (by rw [c16]; rfl) (by decide) ?_
    refine lv_aload_n hx hb dX14_count_91 rfl (lv_at hl 0 rfl) ?_
    refine g_getr (b := (o + 2)) hx hb hts hown hG hR gFx_X14_13_11 shM.1 ((shM.2 1 _ rfl).2) dX14_count_92 ?_
    refine lv_iconst (v := 1) hx hb dX14_count_95 li_1 ?_
    obtain ⟨c17, hf⟩ := gd_some hf
    obtain ⟨v18, ev18, hf⟩ := lt_some hf
    refine n_iald (x := rr1.2) hx hb hG hR k_a_now c17 (ova_get 0 hN_A rfl) ev18 dX14_count_96 ?_
    obtain rfl := some_i hf
    exact hend _ _ _ _ dX14_count_97 hR hS
  have hf := ite_f c16 hf
  have hto := tb_out_0_6 p1 c2 c4 c6 c9 c12 c15 c16
  refine lv_tableOut (tgt := 98) hx hb dX14_count_10 hto (by decide) ?_
  refine lv_iconst (v := -1) hx hb dX14_count_98 li_m1 ?_
  obtain rfl := some_i hf
  exact hend _ _ _ _ dX14_count_99 hR hS
noncomputable def f14_begin (p1 : Int32) (i_thrown : Int32) (i_taped : Int32) (i_size : Int32) (i_limit : Int32) (i_to : Int32) (i_from : Int32) (i_kind : Int32) (i_number : Int32) (i_sign : Int32) (i_fault : Int32) (i_isBegun : Int32) (j_word : Int64) (a_tape : Nat → Int32) (a_now : Nat → Int32) : Option (Int32 × Int32 × Int32 × Int32 × Int32 × Int32 × Int32 × Int32 × Int32 × Int32 × Int32 × Int64 × (Nat → Int32)) :=
  (f14_lay i_isBegun a_now).bind fun rr1 =>
  (f14_take i_taped).bind fun rr2 =>
  (f14_go rr2.1 p1 (0 : Int32) i_from i_kind i_number i_sign j_word a_tape).bind fun rr3 =>
  some ((0 : Int32), rr2.2, rr2.1, p1, rr3.1, rr3.2.1, rr3.2.2.1, rr3.2.2.2.1, rr3.2.2.2.2.1, (0 : Int32), rr1.1, rr3.2.2.2.2.2, rr1.2)
set_option maxHeartbeats 4000000 in
theorem m14_begin (l : Launch) (G : gG) (K : gK) (I : gI) (J : gJ) (X : gX) (A : gI) (B : gJ) (Q : gX) (o : Nat) (shM : Sh K X o 11 rows11) (p1 : Int32) (i_thrown : Int32) (i_taped : Int32) (i_size : Int32) (i_limit : Int32) (i_to : Int32) (i_from : Int32) (i_kind : Int32) (i_number : Int32) (i_sign : Int32) (i_fault : Int32) (i_isBegun : Int32) (j_word : Int64) (a_tape : Nat → Int32) (a_now : Nat → Int32) (e_i_thrown : I 1100 o = i_thrown) (e_i_taped : I 1102 o = i_taped) (e_i_size : I 1103 o = i_size) (e_i_limit : I 1104 o = i_limit) (e_i_to : I 1105 o = i_to) (e_i_from : I 1106 o = i_from) (e_i_kind : I 1107 o = i_kind) (e_i_number : I 1108 o = i_number) (e_i_sign : I 1109 o = i_sign) (e_i_fault : I 1110 o = i_fault) (e_i_isBegun : I 1122 o = i_isBegun) (e_j_word : J 1112 o = j_word) (e_a_tape : A (o + 1) = a_tape) (e_a_now : A (o + 2) = a_now) (out : Int32 × Int32 × Int32 × Int32 × Int32 × Int32 × Int32 × Int32 × Int32 × Int32 × Int32 × Int64 × (Nat → Int32)) (hf : f14_begin p1 i_thrown i_taped i_size i_limit i_to i_from i_kind i_number i_sign i_fault i_isBegun j_word a_tape a_now = some out) : GMet l yX14_begin cX14_begin 2 none (2) (45) G [.ref o, .int p1] K I J X A B Q none K (ov I [(1100, o, out.1), (1102, o, out.2.1), (1103, o, out.2.2.1), (1104, o, out.2.2.2.1), (1105, o, out.2.2.2.2.1), (1106, o, out.2.2.2.2.2.1), (1107, o, out.2.2.2.2.2.2.1), (1108, o, out.2.2.2.2.2.2.2.1), (1109, o, out.2.2.2.2.2.2.2.2.1), (1110, o, out.2.2.2.2.2.2.2.2.2.1), (1122, o, out.2.2.2.2.2.2.2.2.2.2.1)]) (ov J [(1112, o, out.2.2.2.2.2.2.2.2.2.2.2.1)]) X (ova A [((o + 1), a_tape), ((o + 2), out.2.2.2.2.2.2.2.2.2.2.2.2)]) B Q 0 0 := by
  refine GMet.of (y := yX14_begin) rfl (Nat.le_of_ble_eq_true rfl) rfl ?_
  intro p e s m below meth c ls hx hb hr hml hlocks hts hown hname hG hR hl
  have hown : s.vm.findClass RX14 = some m.cls := hown
  have k_a_tape : K (o + 1) = some (.inr (0, 740)) := (shM.2 0 _ rfl).1
  have k_a_now : K (o + 2) = some (.inr (0, 800)) := (shM.2 1 _ rfl).1
  have hN_A : nda [(o + 1), (o + 2)] := nd_off o [1, 2] rfl
  have hR : RS G K (ov I [(1100, o, i_thrown), (1102, o, i_taped), (1103, o, i_size), (1104, o, i_limit), (1105, o, i_to), (1106, o, i_from), (1107, o, i_kind), (1108, o, i_number), (1109, o, i_sign), (1110, o, i_fault), (1122, o, i_isBegun)]) (ov J [(1112, o, j_word)]) X (ova A [((o + 1), a_tape), ((o + 2), a_now)]) B Q s.heap := hR.to (Eq.symm (ov_sc e_i_thrown (ov_sc e_i_taped (ov_sc e_i_size (ov_sc e_i_limit (ov_sc e_i_to (ov_sc e_i_from (ov_sc e_i_kind (ov_sc e_i_number (ov_sc e_i_sign (ov_sc e_i_fault (ov_sc e_i_isBegun rfl)))))))))))) (Eq.symm (ov_sc e_j_word rfl)) rfl (Eq.symm (ova_sc e_a_tape (ova_sc e_a_now rfl))) rfl rfl
  have hS : va_S (gA G) s.heap s.heap [] := va_S.rf
  have hend : ∀ (pc : Nat) (H : Heap) (locs : List Loc) (ls : Array Slot), decode cX14_begin pc = .ok (.return_, 1) → RS G K (ov I [(1100, o, out.1), (1102, o, out.2.1), (1103, o, out.2.2.1), (1104, o, out.2.2.2.1), (1105, o, out.2.2.2.2.1), (1106, o, out.2.2.2.2.2.1), (1107, o, out.2.2.2.2.2.2.1), (1108, o, out.2.2.2.2.2.2.2.1), (1109, o, out.2.2.2.2.2.2.2.2.1), (1110, o, out.2.2.2.2.2.2.2.2.2.1), (1122, o, out.2.2.2.2.2.2.2.2.2.2.1)]) (ov J [(1112, o, out.2.2.2.2.2.2.2.2.2.2.2.1)]) X (ova A [((o + 1), a_tape), ((o + 2), out.2.2.2.2.2.2.2.2.2.2.2.2)]) B Q H → va_S (gA G) s.heap H locs → W p l e ({ frames := 2, cells := 0, slots := 0, locals := 45 } : Room) s m ([.ref o, .int p1] : List Value).toArray below meth c H locs 0 0 (MQ below (gQ G none K (ov I [(1100, o, out.1), (1102, o, out.2.1), (1103, o, out.2.2.1), (1104, o, out.2.2.2.1), (1105, o, out.2.2.2.2.1), (1106, o, out.2.2.2.2.2.1), (1107, o, out.2.2.2.2.2.2.1), (1108, o, out.2.2.2.2.2.2.2.1), (1109, o, out.2.2.2.2.2.2.2.2.1), (1110, o, out.2.2.2.2.2.2.2.2.2.1), (1122, o, out.2.2.2.2.2.2.2.2.2.2.1)]) (ov J [(1112, o, out.2.2.2.2.2.2.2.2.2.2.2.1)]) X (ova A [((o + 1), a_tape), ((o + 2), out.2.2.2.2.2.2.2.2.2.2.2.2)]) B Q) ([.ref o, .int p1] : List Value).toArray s 0 0 (gA G)) (F0 m pc ls []) := fun pc H locs ls hd hR hS => g_vret hx hb hr hlocks hG hR hS rfl hd
  generalize MQ below (gQ G none K (ov I [(1100, o, out.1), (1102, o, out.2.1), (1103, o, out.2.2.1), (1104, o, out.2.2.2.1), (1105, o, out.2.2.2.2.1), (1106, o, out.2.2.2.2.2.1), (1107, o, out.2.2.2.2.2.2.1), (1108, o, out.2.2.2.2.2.2.2.1), (1109, o, out.2.2.2.2.2.2.2.2.1), (1110, o, out.2.2.2.2.2.2.2.2.2.1), (1122, o, out.2.2.2.2.2.2.2.2.2.2.1)]) (ov J [(1112, o, out.2.2.2.2.2.2.2.2.2.2.2.1)]) X (ova A [((o + 1), a_tape), ((o + 2), out.2.2.2.2.2.2.2.2.2.2.2.2)]) B Q) ([.ref o, .int p1] : List Value).toArray s 0 0 (gA G) = Z at hend ⊢
  generalize ([.ref o, .int p1] : List Value).toArray = args at hts hend ⊢
  unfold f14_begin at hf
  refine lv_aload_n hx hb dX14_begin_0 rfl (lv_at hl 0 rfl) ?_
  refine lv_iconst (v := 0) hx hb dX14_begin_1 li_0 ?_
  refine n_puti (li' := [(1100, o, (0 : Int32)), (1102, o, i_taped), (1103, o, i_size), (1104, o, i_limit), (1105, o, i_to), (1106, o, i_from), (1107, o, i_kind), (1108, o, i_number), (1109, o, i_sign), (1110, o, i_fault), (1122, o, i_isBegun)]) hx hb hts hown hG hR hS gPi_X14_148_11 shM.1 0 rfl rfl rfl dX14_begin_2 (fun H locs hR hS => ?_)
  refine lv_aload_n hx hb dX14_begin_5 rfl (lv_at hl 0 rfl) ?_
  obtain ⟨rr1, hrr1, hf⟩ := bind_s hf
  refine g0_cVv (rm := (1, 21)) (As := []) (rest := []) ⟨hx, hb, hml, hown, hts⟩ hG hR hS (m14_lay l G K (ov I [(1100, o, (0 : Int32)), (1102, o, i_taped), (1103, o, i_size), (1104, o, i_limit), (1105, o, i_to), (1106, o, i_from), (1107, o, i_kind), (1108, o, i_number), (1109, o, i_sign), (1110, o, i_fault), (1122, o, i_isBegun)]) (ov J [(1112, o, j_word)]) X (ova A [((o + 1), a_tape), ((o + 2), a_now)]) B Q o shM i_isBegun a_now (ov_get 10 rfl rfl) (ova_get 1 hN_A rfl) rr1 hrr1) (cwV 0 hts gi_X14_232 rfl rfl rfl hd_X14_lay ⟨Nat.le_of_ble_eq_true rfl, Nat.le_of_ble_eq_true rfl⟩) shM.1 rfl rfl hl.1 (Nat.le_of_ble_eq_true rfl) dX14_begin_6 ⟨Nat.le_refl _, Nat.le_refl _⟩ rfl (fun H locs hR hS => ?_)
  have hR : RS G K (ov I [(1100, o, (0 : Int32)), (1102, o, i_taped), (1103, o, i_size), (1104, o, i_limit), (1105, o, i_to), (1106, o, i_from), (1107, o, i_kind), (1108, o, i_number), (1109, o, i_sign), (1110, o, i_fault), (1122, o, rr1.1)]) (ov J [(1112, o, j_word)]) X (ova A [((o + 1), a_tape), ((o + 2), rr1.2)]) B Q H := hR.to (ov_merge (l := [(1100, o, (0 : Int32)), (1102, o, i_taped), (1103, o, i_size), (1104, o, i_limit), (1105, o, i_to), (1106, o, i_from), (1107, o, i_kind), (1108, o, i_number), (1109, o, i_sign), (1110, o, i_fault), (1122, o, i_isBegun)]) rfl [10] [(1122, o, rr1.1)] rfl rfl) rfl rfl (ova_merge (l := [((o + 1), a_tape), ((o + 2), a_now)]) hN_A [1] [((o + 2), rr1.2)] rfl rfl) rfl rfl
  refine lv_aload_n hx hb dX14_begin_9 rfl (lv_at hl 0 rfl) ?_
  refine lv_aload_n hx hb dX14_begin_10 rfl (lv_at hl 0 rfl) ?_
  obtain ⟨rr2, hrr2, hf⟩ := bind_s hf
  refine g0_cV (rm := (0, 0)) (As := []) (rest := [.ref o]) ⟨hx, hb, hml, hown, hts⟩ hG hR hS (m14_take l G K (ov I [(1100, o, (0 : Int32)), (1102, o, i_taped), (1103, o, i_size), (1104, o, i_limit), (1105, o, i_to), (1106, o, i_from), (1107, o, i_kind), (1108, o, i_number), (1109, o, i_sign), (1110, o, i_fault), (1122, o, rr1.1)]) (ov J [(1112, o, j_word)]) X (ova A [((o + 1), a_tape), ((o + 2), rr1.2)]) B Q o shM i_taped (ov_get 1 rfl rfl) rr2 hrr2) (cwV 0 hts gi_X14_235 rfl rfl rfl hd_X14_take ⟨Nat.le_of_ble_eq_true rfl, Nat.le_of_ble_eq_true rfl⟩) shM.1 rfl rfl hl.1 (Nat.le_of_ble_eq_true rfl) dX14_begin_11 ⟨Nat.le_refl _, Nat.le_refl _⟩ rfl (fun H locs hR hS => ?_)
  have hR : RS G K (ov I [(1100, o, (0 : Int32)), (1102, o, rr2.2), (1103, o, i_size), (1104, o, i_limit), (1105, o, i_to), (1106, o, i_from), (1107, o, i_kind), (1108, o, i_number), (1109, o, i_sign), (1110, o, i_fault), (1122, o, rr1.1)]) (ov J [(1112, o, j_word)]) X (ova A [((o + 1), a_tape), ((o + 2), rr1.2)]) B Q H := hR.to (ov_merge (l := [(1100, o, (0 : Int32)), (1102, o, i_taped), (1103, o, i_size), (1104, o, i_limit), (1105, o, i_to), (1106, o, i_from), (1107, o, i_kind), (1108, o, i_number), (1109, o, i_sign), (1110, o, i_fault), (1122, o, rr1.1)]) rfl [1] [(1102, o, rr2.2)] rfl rfl) rfl rfl rfl rfl rfl
  refine n_puti (li' := [(1100, o, (0 : Int32)), (1102, o, rr2.2), (1103, o, rr2.1), (1104, o, i_limit), (1105, o, i_to), (1106, o, i_from), (1107, o, i_kind), (1108, o, i_number), (1109, o, i_sign), (1110, o, i_fault), (1122, o, rr1.1)]) hx hb hts hown hG hR hS gPi_X14_158_11 shM.1 2 rfl rfl rfl dX14_begin_14 (fun H locs hR hS => ?_)
  refine lv_aload_n hx hb dX14_begin_17 rfl (lv_at hl 0 rfl) ?_
  refine lv_iload_n hx hb dX14_begin_18 rfl (lv_at hl 1 rfl) ?_
  refine n_puti (li' := [(1100, o, (0 : Int32)), (1102, o, rr2.2), (1103, o, rr2.1), (1104, o, p1), (1105, o, i_to), (1106, o, i_from), (1107, o, i_kind), (1108, o, i_number), (1109, o, i_sign), (1110, o, i_fault), (1122, o, rr1.1)]) hx hb hts hown hG hR hS gPi_X14_167_11 shM.1 3 rfl rfl rfl dX14_begin_19 (fun H locs hR hS => ?_)
  refine lv_aload_n hx hb dX14_begin_22 rfl (lv_at hl 0 rfl) ?_
  refine lv_iconst (v := 0) hx hb dX14_begin_23 li_0 ?_
  refine n_puti (li' := [(1100, o, (0 : Int32)), (1102, o, rr2.2), (1103, o, rr2.1), (1104, o, p1), (1105, o, i_to), (1106, o, i_from), (1107, o, i_kind), (1108, o, i_number), (1109, o, i_sign), (1110, o, (0 : Int32)), (1122, o, rr1.1)]) hx hb hts hown hG hR hS gPi_X14_210_11 shM.1 9 rfl rfl rfl dX14_begin_24 (fun H locs hR hS => ?_)
  refine lv_aload_n hx hb dX14_begin_27 rfl (lv_at hl 0 rfl) ?_
  refine lv_iconst (v := 0) hx hb dX14_begin_28 li_0 ?_
  refine n_puti (li' := [(1100, o, (0 : Int32)), (1102, o, rr2.2), (1103, o, rr2.1), (1104, o, p1), (1105, o, (0 : Int32)), (1106, o, i_from), (1107, o, i_kind), (1108, o, i_number), (1109, o, i_sign), (1110, o, (0 : Int32)), (1122, o, rr1.1)]) hx hb hts hown hG hR hS gPi_X14_161_11 shM.1 4 rfl rfl rfl dX14_begin_29 (fun H locs hR hS => ?_)
  refine lv_aload_n hx hb dX14_begin_32 rfl (lv_at hl 0 rfl) ?_
  obtain ⟨rr3, hrr3, hf⟩ := bind_s hf
  refine g0_cVv (rm := (1, 21)) (As := []) (rest := []) ⟨hx, hb, hml, hown, hts⟩ hG hR hS (m14_go l G K (ov I [(1100, o, (0 : Int32)), (1102, o, rr2.2), (1103, o, rr2.1), (1104, o, p1), (1105, o, (0 : Int32)), (1106, o, i_from), (1107, o, i_kind), (1108, o, i_number), (1109, o, i_sign), (1110, o, (0 : Int32)), (1122, o, rr1.1)]) (ov J [(1112, o, j_word)]) X (ova A [((o + 1), a_tape), ((o + 2), rr1.2)]) B Q o shM rr2.1 p1 (0 : Int32) i_from i_kind i_number i_sign j_word a_tape (ov_get 2 rfl rfl) (ov_get 3 rfl rfl) (ov_get 4 rfl rfl) (ov_get 5 rfl rfl) (ov_get 6 rfl rfl) (ov_get 7 rfl rfl) (ov_get 8 rfl rfl) (ov_get 0 rfl rfl) (ova_get 0 hN_A rfl) rr3 hrr3) (cwV 0 hts gi_X14_226 rfl rfl rfl hd_X14_go ⟨Nat.le_of_ble_eq_true rfl, Nat.le_of_ble_eq_true rfl⟩) shM.1 rfl rfl hl.1 (Nat.le_of_ble_eq_true rfl) dX14_begin_33 ⟨Nat.le_refl _, Nat.le_refl _⟩ rfl (fun H locs hR hS => ?_)
  have hR : RS G K (ov I [(1100, o, (0 : Int32)), (1102, o, rr2.2), (1103, o, rr2.1), (1104, o, p1), (1105, o, rr3.1), (1106, o, rr3.2.1), (1107, o, rr3.2.2.1), (1108, o, rr3.2.2.2.1), (1109, o, rr3.2.2.2.2.1), (1110, o, (0 : Int32)), (1122, o, rr1.1)]) (ov J [(1112, o, rr3.2.2.2.2.2)]) X (ova A [((o + 1), a_tape), ((o + 2), rr1.2)]) B Q H := hR.to (ov_merge (l := [(1100, o, (0 : Int32)), (1102, o, rr2.2), (1103, o, rr2.1), (1104, o, p1), (1105, o, (0 : Int32)), (1106, o, i_from), (1107, o, i_kind), (1108, o, i_number), (1109, o, i_sign), (1110, o, (0 : Int32)), (1122, o, rr1.1)]) rfl [4, 5, 6, 7, 8] [(1105, o, rr3.1), (1106, o, rr3.2.1), (1107, o, rr3.2.2.1), (1108, o, rr3.2.2.2.1), (1109, o, rr3.2.2.2.2.1)] rfl rfl) (ov_merge (l := [(1112, o, j_word)]) rfl [0] [(1112, o, rr3.2.2.2.2.2)] rfl rfl) rfl rfl rfl rfl
  obtain rfl := some_i hf
  exact hend _ _ _ _ dX14_begin_36 hR hS
noncomputable def f14_isWord_j24  : Option (Int32) :=
  some (0 : Int32)

noncomputable def f14_isWord (p1 : Int32) (i_kind : Int32) (j_word : Int64) : Option (Int32) :=
  if i_kind = (2 : Int32) then
    (f14_wordOf p1).bind fun rr2 =>
    lt (lg_cmp j_word rr2) fun v3 =>
    if v3 = 0 then
      some (1 : Int32)
    else
      f14_isWord_j24
  else
    f14_isWord_j24
set_option maxHeartbeats 4000000 in
theorem m14_isWord (l : Launch) (G : gG) (K : gK) (I : gI) (J : gJ) (X : gX) (A : gI) (B : gJ) (Q : gX) (o : Nat) (shM : Sh K X o 11 rows11) (p1 : Int32) (i_kind : Int32) (j_word : Int64) (e_i_kind : I 1107 o = i_kind) (e_j_word : J 1112 o = j_word) (out : Int32) (hf : f14_isWord p1 i_kind j_word = some out) : GMet l yX14_isWord cX14_isWord 2 (some .boolean) (2) (46) G [.ref o, .int p1] K I J X A B Q (some (.int out)) K I J X A B Q 0 0 := by
  refine GMet.of (y := yX14_isWord) rfl (Nat.le_of_ble_eq_true rfl) rfl ?_
  intro p e s m below meth c ls hx hb hr hml hlocks hts hown hname hG hR hl
  have hown : s.vm.findClass RX14 = some m.cls := hown
  have hR : RS G K I J X A B Q s.heap := hR.to rfl rfl rfl rfl rfl rfl
  have hS : va_S (gA G) s.heap s.heap [] := va_S.rf
  have hend : ∀ (pc : Nat) (H : Heap) (locs : List Loc) (ls : Array Slot), decode cX14_isWord pc = .ok (.ireturn, 1) → narrow .boolean (.int out) = .int out → RS G K I J X A B Q H → va_S (gA G) s.heap H locs → W p l e ({ frames := 2, cells := 0, slots := 0, locals := 46 } : Room) s m ([.ref o, .int p1] : List Value).toArray below meth c H locs 0 0 (MQ below (gQ G (some (.int out)) K I J X A B Q) ([.ref o, .int p1] : List Value).toArray s 0 0 (gA G)) (F0 m pc ls [.int out]) := fun pc H locs ls hd hz hR hS => g_zret hx hb hr hlocks hz hG hR hS rfl hd
  generalize MQ below (gQ G (some (.int out)) K I J X A B Q) ([.ref o, .int p1] : List Value).toArray s 0 0 (gA G) = Z at hend ⊢
  generalize ([.ref o, .int p1] : List Value).toArray = args at hts hend ⊢
  unfold f14_isWord at hf
  refine lv_aload_n hx hb dX14_isWord_0 rfl (lv_at hl 0 rfl) ?_
  refine n_geti (v := i_kind) hx hb hts hown hG hR gFi_X14_170_11 shM.1 e_i_kind dX14_isWord_1 ?_
  refine lv_iconst (v := 2) hx hb dX14_isWord_4 li_2 ?_
  have hj24 : ∀ (_ : Unit), f14_isWord_j24 = some out → ∀ (H : Heap) (locs : List Loc) (ls : Array Slot), RS G K I J X A B Q H → va_S (gA G) s.heap H locs → lv_has ls 2 [(0, .ref o)] → W p l e ({ frames := 2, cells := 0, slots := 0, locals := 46 } : Room) s m args below meth c H locs 0 0 Z (F0 m 24 ls []) := by
    intro _ hf H locs ls hR hS hl
    unfold f14_isWord_j24 at hf
    refine lv_iconst (v := 0) hx hb dX14_isWord_24 li_0 ?_
    obtain rfl := some_i hf
    exact hend _ _ _ _ dX14_isWord_25 nz_0 hR hS
  refine lv_icmp_ne (tgt := 24) hx hb dX14_isWord_5 (by decide) (fun c1 => ?_) (fun c1 => ?_)
  · have hf := ite_f c1 hf
    exact hj24 () hf _ _ _ hR hS (lv_sub hl [0] rfl)
  · have hf := ite_t c1 hf
    refine lv_aload_n hx hb dX14_isWord_8 rfl (lv_at hl 0 rfl) ?_
    refine n_getj (v := j_word) hx hb hts hown hG hR gFj_X14_183_11 shM.1 e_j_word dX14_isWord_9 ?_
    refine lv_iload_n hx hb dX14_isWord_12 rfl (lv_at hl 1 rfl) ?_
    obtain ⟨rr2, hrr2, hf⟩ := bind_s hf
    refine g0_cS (rm := (1, 26)) (As := [.int p1]) (rest := [.long j_word]) ⟨hx, hb, hml, hown, hts⟩ hG hR hS (m14_wordOf l G K I J X A B Q p1 rr2 hrr2) (cwS 1 hts gi_X14_206 rfl rfl rfl hd_X14_wordOf ⟨Nat.le_of_ble_eq_true rfl, Nat.le_of_ble_eq_true rfl⟩) rfl hl.1 (Nat.le_of_ble_eq_true rfl) dX14_isWord_13 ⟨Nat.le_refl _, Nat.le_refl _⟩ rfl (fun H locs hR hS => ?_)
    obtain ⟨v3, ev3, hf⟩ := lt_some hf
    refine n_lcmp hx hb ev3 dX14_isWord_16 ?_
    refine lv_if_ne (tgt := 24) hx hb dX14_isWord_17 (by decide) (fun c4 => ?_) (fun c4 => ?_)
    · have hf := ite_f c4 hf
      exact hj24 () hf _ _ _ hR hS (lv_sub hl [0] rfl)
    · have hf := ite_t c4 hf
      refine lv_iconst (v := 1) hx hb dX14_isWord_20 li_1 ?_
      refine lv_goto (tgt := 25) hx hb dX14_isWord_21 (by decide) ?_
      obtain rfl := some_i hf
      exact hend _ _ _ _ dX14_isWord_25 nz_1 hR hS
noncomputable def f14_readMan_e11_0 (u9 : Nat → Int64) (x11_0 : Int32 × Int32 × Int32 × Int32 × Int32 × Int32 × Int32 × Int32 × Int64 × (Nat → Int32)) : Option (Int32 × Int32 × Int32 × Int32 × Int32 × Int32 × Int32 × Int32 × Int32 × Int64 × (Nat → Int32) × (Nat → Int64)) :=
  gd (inb (0 : Int32) 200) <|
  lt (x11_0.2.2.2.2.2.2.2.2.2 (0 : Int32).toNatClampNeg) fun v13 =>
  lt (v13 + (1 : Int32)) fun v14 =>
  gd (inb (0 : Int32) 200) <|
  lt (upd x11_0.2.2.2.2.2.2.2.2.2 (0 : Int32).toNatClampNeg v14) fun u16 =>
  some ((1 : Int32), x11_0.1, x11_0.2.1, x11_0.2.2.1, x11_0.2.2.2.1, x11_0.2.2.2.2.1, x11_0.2.2.2.2.2.1, x11_0.2.2.2.2.2.2.1, x11_0.2.2.2.2.2.2.2.1, x11_0.2.2.2.2.2.2.2.2.1, u16, u9)

noncomputable def f14_readMan_e11_1 (x11_1 : Int32 × Int32 × Int32 × Int32 × Int32 × Int32 × Int32 × Int32 × Int32 × Int64 × (Nat → Int32) × (Nat → Int64)) : Option (Int32 × Int32 × Int32 × Int32 × Int32 × Int32 × Int32 × Int32 × Int32 × Int64 × (Nat → Int32) × (Nat → Int64)) :=
  some x11_1

noncomputable def f14_readMan_j104 (i_size : Int32) (i_limit : Int32) (a_tape : Nat → Int32) (v2 : Int32) (u9 : Nat → Int64) (w11_2 : Int32) (w11_i_to : Int32) (w11_i_from : Int32) (w11_i_kind : Int32) (w11_i_number : Int32) (w11_i_sign : Int32) (w11_i_fault : Int32) (w11_i_at : Int32) (w11_i_told : Int32) (w11_j_word : Int64) (w11_a_read : Nat → Int32) (j104_s0 : Int32) : Option ((Int32 × Int32 × Int32 × Int32 × Int32 × Int32 × Int32 × Int32 × Int32 × Int64 × (Nat → Int32)) ⊕ ((Int32 × Int32 × Int32 × Int32 × Int32 × Int32 × Int32 × Int32 × Int64 × (Nat → Int32)) ⊕ (Int32 × Int32 × Int32 × Int32 × Int32 × Int32 × Int32 × Int32 × Int32 × Int64 × (Nat → Int32) × (Nat → Int64)))) :=
  (f14_readNumber (1 : Int32) j104_s0 i_size i_limit w11_i_to w11_i_from w11_i_kind w11_i_number w11_i_sign w11_i_fault w11_i_at w11_i_told w11_j_word a_tape).bind fun rr18 =>
  if rr18.1 = 0 then
    some (.inr (.inr ((0 : Int32), rr18.2.1, rr18.2.2.1, rr18.2.2.2.1, rr18.2.2.2.2.1, rr18.2.2.2.2.2.1, rr18.2.2.2.2.2.2.1, rr18.2.2.2.2.2.2.2.1, rr18.2.2.2.2.2.2.2.2.1, rr18.2.2.2.2.2.2.2.2.2, w11_a_read, u9)))
  else
    lt ((3 : Int32) * v2) fun v20 =>
    lt ((20 : Int32) + v20) fun v21 =>
    lt (v21 + w11_2) fun v22 =>
    gd (inb v22 200) <|
    lt (upd w11_a_read v22.toNatClampNeg rr18.2.2.2.2.2.2.2.2.1) fun u24 =>
    lt (w11_2 + (1 : Int32)) fun v25 =>
    some (.inl (v25, rr18.2.1, rr18.2.2.1, rr18.2.2.2.1, rr18.2.2.2.2.1, rr18.2.2.2.2.2.1, rr18.2.2.2.2.2.2.1, rr18.2.2.2.2.2.2.2.1, rr18.2.2.2.2.2.2.2.2.1, rr18.2.2.2.2.2.2.2.2.2, u24))

noncomputable def f14_readMan_s11 (i_size : Int32) (i_limit : Int32) (a_tape : Nat → Int32) (v2 : Int32) (u9 : Nat → Int64) (w11_2 : Int32) (w11_i_to : Int32) (w11_i_from : Int32) (w11_i_kind : Int32) (w11_i_number : Int32) (w11_i_sign : Int32) (w11_i_fault : Int32) (w11_i_at : Int32) (w11_i_told : Int32) (w11_j_word : Int64) (w11_a_read : Nat → Int32) : Option ((Int32 × Int32 × Int32 × Int32 × Int32 × Int32 × Int32 × Int32 × Int32 × Int64 × (Nat → Int32)) ⊕ ((Int32 × Int32 × Int32 × Int32 × Int32 × Int32 × Int32 × Int32 × Int64 × (Nat → Int32)) ⊕ (Int32 × Int32 × Int32 × Int32 × Int32 × Int32 × Int32 × Int32 × Int32 × Int64 × (Nat → Int32) × (Nat → Int64)))) :=
  if (2 : Int32) < w11_2 then
    some (.inr (.inl (w11_i_to, w11_i_from, w11_i_kind, w11_i_number, w11_i_sign, w11_i_fault, w11_i_at, w11_i_told, w11_j_word, w11_a_read)))
  else
    if w11_2 = (2 : Int32) then
      f14_readMan_j104 i_size i_limit a_tape v2 u9 w11_2 w11_i_to w11_i_from w11_i_kind w11_i_number w11_i_sign w11_i_fault w11_i_at w11_i_told w11_j_word w11_a_read (99 : Int32)
    else
      f14_readMan_j104 i_size i_limit a_tape v2 u9 w11_2 w11_i_to w11_i_from w11_i_kind w11_i_number w11_i_sign w11_i_fault w11_i_at w11_i_told w11_j_word w11_a_read (9 : Int32)

noncomputable def f14_readMan_e7_0 (i_size : Int32) (i_limit : Int32) (i_fault : Int32) (i_at : Int32) (i_told : Int32) (a_tape : Nat → Int32) (a_read : Nat → Int32) (b_readName : Nat → Int64) (v2 : Int32) (rr4 : Int32 × Int32 × Int32 × Int32 × Int32 × Int64) (x7_0 : Unit) : Option (Int32 × Int32 × Int32 × Int32 × Int32 × Int32 × Int32 × Int32 × Int32 × Int64 × (Nat → Int32) × (Nat → Int64)) :=
  gd (inb v2 12) <|
  lt (vp_updL b_readName v2.toNatClampNeg rr4.2.2.2.2.2) fun u9 =>
  (f14_go i_size i_limit rr4.1 rr4.2.1 rr4.2.2.1 rr4.2.2.2.1 rr4.2.2.2.2.1 rr4.2.2.2.2.2 a_tape).bind fun rr10 =>
  (whl (fun (s11 : Int32 × Int32 × Int32 × Int32 × Int32 × Int32 × Int32 × Int32 × Int32 × Int64 × (Nat → Int32)) => f14_readMan_s11 i_size i_limit a_tape v2 u9 s11.1 s11.2.1 s11.2.2.1 s11.2.2.2.1 s11.2.2.2.2.1 s11.2.2.2.2.2.1 s11.2.2.2.2.2.2.1 s11.2.2.2.2.2.2.2.1 s11.2.2.2.2.2.2.2.2.1 s11.2.2.2.2.2.2.2.2.2.1 s11.2.2.2.2.2.2.2.2.2.2) FU ((0 : Int32), rr10.1, rr10.2.1, rr10.2.2.1, rr10.2.2.2.1, rr10.2.2.2.2.1, i_fault, i_at, i_told, rr10.2.2.2.2.2, a_read)).bind fun rl11 =>
  Sum.elim (f14_readMan_e11_0 u9) (f14_readMan_e11_1) rl11

noncomputable def f14_readMan_e7_1 (i_fault : Int32) (i_at : Int32) (i_told : Int32) (a_read : Nat → Int32) (b_readName : Nat → Int64) (rr4 : Int32 × Int32 × Int32 × Int32 × Int32 × Int64) (x7_1 : Unit) : Option (Int32 × Int32 × Int32 × Int32 × Int32 × Int32 × Int32 × Int32 × Int32 × Int64 × (Nat → Int32) × (Nat → Int64)) :=
  (f14_bad (3 : Int32) rr4.2.1 rr4.2.2.1 i_fault i_at).bind fun rr27 =>
  gd (rr27.1 &&& 1 = rr27.1) <|
  some (rr27.1, rr4.1, rr4.2.1, rr4.2.2.1, rr4.2.2.2.1, rr4.2.2.2.2.1, rr27.2.1, rr27.2.2, i_told, rr4.2.2.2.2.2, a_read, b_readName)

noncomputable def f14_readMan_s7 (b_readName : Nat → Int64) (v2 : Int32) (rr4 : Int32 × Int32 × Int32 × Int32 × Int32 × Int64) (w7_2 : Int32) : Option ((Int32) ⊕ ((Unit) ⊕ (Unit))) :=
  if v2 ≤ w7_2 then
    some (.inr (.inl ()))
  else
    gd (inb w7_2 12) <|
    lt (b_readName w7_2.toNatClampNeg) fun v30 =>
    lt (lg_cmp v30 rr4.2.2.2.2.2) fun v31 =>
    if v31 = 0 then
      some (.inr (.inr ()))
    else
      lt (w7_2 + (1 : Int32)) fun v33 =>
      some (.inl v33)

noncomputable def f14_readMan (i_size : Int32) (i_limit : Int32) (i_to : Int32) (i_from : Int32) (i_kind : Int32) (i_number : Int32) (i_sign : Int32) (i_fault : Int32) (i_at : Int32) (i_told : Int32) (j_word : Int64) (a_tape : Nat → Int32) (a_read : Nat → Int32) (b_readName : Nat → Int64) : Option (Int32 × Int32 × Int32 × Int32 × Int32 × Int32 × Int32 × Int32 × Int32 × Int64 × (Nat → Int32) × (Nat → Int64)) :=
  gd (inb (0 : Int32) 200) <|
  lt (a_read (0 : Int32).toNatClampNeg) fun v2 =>
  if v2 = (12 : Int32) then
    (f14_bad (4 : Int32) i_from i_kind i_fault i_at).bind fun rr35 =>
    gd (rr35.1 &&& 1 = rr35.1) <|
    some (rr35.1, i_to, i_from, i_kind, i_number, i_sign, rr35.2.1, rr35.2.2, i_told, j_word, a_read, b_readName)
  else
    (f14_go i_size i_limit i_to i_from i_kind i_number i_sign j_word a_tape).bind fun rr4 =>
    (f14_isName rr4.2.2.1 rr4.2.2.2.2.2).bind fun rr5 =>
    if rr5 = 0 then
      (f14_bad (1 : Int32) rr4.2.1 rr4.2.2.1 i_fault i_at).bind fun rr34 =>
      gd (rr34.1 &&& 1 = rr34.1) <|
      some (rr34.1, rr4.1, rr4.2.1, rr4.2.2.1, rr4.2.2.2.1, rr4.2.2.2.2.1, rr34.2.1, rr34.2.2, i_told, rr4.2.2.2.2.2, a_read, b_readName)
    else
      (whl (fun (s7 : Int32) => f14_readMan_s7 b_readName v2 rr4 s7) FU (0 : Int32)).bind fun rl7 =>
      Sum.elim (f14_readMan_e7_0 i_size i_limit i_fault i_at i_told a_tape a_read b_readName v2 rr4) (f14_readMan_e7_1 i_fault i_at i_told a_read b_readName rr4) rl7
set_option maxHeartbeats 4000000 in
theorem m14_readMan (l : Launch) (G : gG) (K : gK) (I : gI) (J : gJ) (X : gX) (A : gI) (B : gJ) (Q : gX) (o : Nat) (shM : Sh K X o 11 rows11)  (i_size : Int32) (i_limit : Int32) (i_to : Int32) (i_from : Int32) (i_kind : Int32) (i_number : Int32) (i_sign : Int32) (i_fault : Int32) (i_at : Int32) (i_told : Int32) (j_word : Int64) (a_tape : Nat → Int32) (a_read : Nat → Int32) (b_readName : Nat → Int64) (e_i_size : I 1103 o = i_size) (e_i_limit : I 1104 o = i_limit) (e_i_to : I 1105 o = i_to) (e_i_from : I 1106 o = i_from) (e_i_kind : I 1107 o = i_kind) (e_i_number : I 1108 o = i_number) (e_i_sign : I 1109 o = i_sign) (e_i_fault : I 1110 o = i_fault) (e_i_at : I 1111 o = i_at) (e_i_told : I 1113 o = i_told) (e_j_word : J 1112 o = j_word) (e_a_tape : A (o + 1) = a_tape) (e_a_read : A (o + 3) = a_read) (e_b_readName : B (o + 7) = b_readName) (out : Int32 × Int32 × Int32 × Int32 × Int32 × Int32 × Int32 × Int32 × Int32 × Int64 × (Nat → Int32) × (Nat → Int64)) (hf : f14_readMan i_size i_limit i_to i_from i_kind i_number i_sign i_fault i_at i_told j_word a_tape a_read b_readName = some out) : GMet l yX14_readMan cX14_readMan 3 (some .boolean) (3) (67) G [.ref o] K I J X A B Q (some (.int out.1)) K (ov I [(1105, o, out.2.1), (1106, o, out.2.2.1), (1107, o, out.2.2.2.1), (1108, o, out.2.2.2.2.1), (1109, o, out.2.2.2.2.2.1), (1110, o, out.2.2.2.2.2.2.1), (1111, o, out.2.2.2.2.2.2.2.1), (1113, o, out.2.2.2.2.2.2.2.2.1)]) (ov J [(1112, o, out.2.2.2.2.2.2.2.2.2.1)]) X (ova A [((o + 1), a_tape), ((o + 3), out.2.2.2.2.2.2.2.2.2.2.1)]) (ova B [((o + 7), out.2.2.2.2.2.2.2.2.2.2.2)]) Q 0 0 := by
  refine GMet.of (y := yX14_readMan) rfl (Nat.le_of_ble_eq_true rfl) rfl ?_
  intro p e s m below meth c ls hx hb hr hml hlocks hts hown hname hG hR hl
  have hown : s.vm.findClass RX14 = some m.cls := hown
  have k_a_tape : K (o + 1) = some (.inr (0, 740)) := (shM.2 0 _ rfl).1
  have k_a_read : K (o + 3) = some (.inr (0, 200)) := (shM.2 2 _ rfl).1
  have k_b_readName : K (o + 7) = some (.inr (3, 12)) := (shM.2 6 _ rfl).1
  have hN_A : nda [(o + 1), (o + 3)] := nd_off o [1, 3] rfl
  have hN_B : nda [(o + 7)] := nd_off o [7] rfl
  have hR : RS G K (ov I [(1105, o, i_to), (1106, o, i_from), (1107, o, i_kind), (1108, o, i_number), (1109, o, i_sign), (1110, o, i_fault), (1111, o, i_at), (1113, o, i_told)]) (ov J [(1112, o, j_word)]) X (ova A [((o + 1), a_tape), ((o + 3), a_read)]) (ova B [((o + 7), b_readName)]) Q s.heap := hR.to (Eq.symm (ov_sc e_i_to (ov_sc e_i_from (ov_sc e_i_kind (ov_sc e_i_number (ov_sc e_i_sign (ov_sc e_i_fault (ov_sc e_i_at (ov_sc e_i_told rfl))))))))) (Eq.symm (ov_sc e_j_word rfl)) rfl (Eq.symm (ova_sc e_a_tape (ova_sc e_a_read rfl))) (Eq.symm (ova_sc e_b_readName rfl)) rfl
  have hS : va_S (gA G) s.heap s.heap [] := va_S.rf
  have hend : ∀ (pc : Nat) (H : Heap) (locs : List Loc) (ls : Array Slot), decode cX14_readMan pc = .ok (.ireturn, 1) → narrow .boolean (.int out.1) = .int out.1 → RS G K (ov I [(1105, o, out.2.1), (1106, o, out.2.2.1), (1107, o, out.2.2.2.1), (1108, o, out.2.2.2.2.1), (1109, o, out.2.2.2.2.2.1), (1110, o, out.2.2.2.2.2.2.1), (1111, o, out.2.2.2.2.2.2.2.1), (1113, o, out.2.2.2.2.2.2.2.2.1)]) (ov J [(1112, o, out.2.2.2.2.2.2.2.2.2.1)]) X (ova A [((o + 1), a_tape), ((o + 3), out.2.2.2.2.2.2.2.2.2.2.1)]) (ova B [((o + 7), out.2.2.2.2.2.2.2.2.2.2.2)]) Q H → va_S (gA G) s.heap H locs → W p l e ({ frames := 3, cells := 0, slots := 0, locals := 67 } : Room) s m ([.ref o] : List Value).toArray below meth c H locs 0 0 (MQ below (gQ G (some (.int out.1)) K (ov I [(1105, o, out.2.1), (1106, o, out.2.2.1), (1107, o, out.2.2.2.1), (1108, o, out.2.2.2.2.1), (1109, o, out.2.2.2.2.2.1), (1110, o, out.2.2.2.2.2.2.1), (1111, o, out.2.2.2.2.2.2.2.1), (1113, o, out.2.2.2.2.2.2.2.2.1)]) (ov J [(1112, o, out.2.2.2.2.2.2.2.2.2.1)]) X (ova A [((o + 1), a_tape), ((o + 3), out.2.2.2.2.2.2.2.2.2.2.1)]) (ova B [((o + 7), out.2.2.2.2.2.2.2.2.2.2.2)]) Q) ([.ref o] : List Value).toArray s 0 0 (gA G)) (F0 m pc ls [.int out.1]) := fun pc H locs ls hd hz hR hS => g_zret hx hb hr hlocks hz hG hR hS rfl hd
  generalize MQ below (gQ G (some (.int out.1)) K (ov I [(1105, o, out.2.1), (1106, o, out.2.2.1), (1107, o, out.2.2.2.1), (1108, o, out.2.2.2.2.1), (1109, o, out.2.2.2.2.2.1), (1110, o, out.2.2.2.2.2.2.1), (1111, o, out.2.2.2.2.2.2.2.1), (1113, o, out.2.2.2.2.2.2.2.2.1)]) (ov J [(1112, o, out.2.2.2.2.2.2.2.2.2.1)]) X (ova A [((o + 1), a_tape), ((o + 3), out.2.2.2.2.2.2.2.2.2.2.1)]) (ova B [((o + 7), out.2.2.2.2.2.2.2.2.2.2.2)]) Q) ([.ref o] : List Value).toArray s 0 0 (gA G) = Z at hend ⊢
  generalize ([.ref o] : List Value).toArray = args at hts hend ⊢
  unfold f14_readMan at hf
  refine lv_aload_n hx hb dX14_readMan_0 rfl (lv_at hl 0 rfl) ?_
  refine g_getr (b := (o + 3)) hx hb hts hown hG hR gFx_X14_16_11 shM.1 ((shM.2 2 _ rfl).2) dX14_readMan_1 ?_
  refine lv_iconst (v := 0) hx hb dX14_readMan_4 li_0 ?_
  obtain ⟨c1, hf⟩ := gd_some hf
  obtain ⟨v2, ev2, hf⟩ := lt_some hf
  refine n_iald (x := a_read) hx hb hG hR k_a_read c1 (ova_get 1 hN_A rfl) ev2 dX14_readMan_5 ?_
  refine lv_istore_n (lv' := [(1, .int v2), (0, .ref o)]) hx hb dX14_readMan_6 rfl hl (by decide) rfl (fun ls hl => ?_)
  refine lv_iload_n hx hb dX14_readMan_7 rfl (lv_at hl 0 rfl) ?_
  refine lv_bipush (v := 12) hx hb dX14_readMan_8 lb_12 ?_
  refine lv_icmp_ne (tgt := 19) hx hb dX14_readMan_10 (by decide) (fun c3 => ?_) (fun c3 => ?_)
  · have hf := ite_f c3 hf
    refine lv_aload_n hx hb dX14_readMan_19 rfl (lv_at hl 1 rfl) ?_
    obtain ⟨rr4, hrr4, hf⟩ := bind_s hf
    refine g0_cVv (rm := (1, 21)) (As := []) (rest := []) ⟨hx, hb, hml, hown, hts⟩ hG hR hS (m14_go l G K (ov I [(1105, o, i_to), (1106, o, i_from), (1107, o, i_kind), (1108, o, i_number), (1109, o, i_sign), (1110, o, i_fault), (1111, o, i_at), (1113, o, i_told)]) (ov J [(1112, o, j_word)]) X (ova A [((o + 1), a_tape), ((o + 3), a_read)]) (ova B [((o + 7), b_readName)]) Q o shM i_size i_limit i_to i_from i_kind i_number i_sign j_word a_tape ((congrFun (ov_no rfl) _).trans e_i_size) ((congrFun (ov_no rfl) _).trans e_i_limit) (ov_get 0 rfl rfl) (ov_get 1 rfl rfl) (ov_get 2 rfl rfl) (ov_get 3 rfl rfl) (ov_get 4 rfl rfl) (ov_get 0 rfl rfl) (ova_get 0 hN_A rfl) rr4 hrr4) (cwV 0 hts gi_X14_226 rfl rfl rfl hd_X14_go ⟨Nat.le_of_ble_eq_true rfl, Nat.le_of_ble_eq_true rfl⟩) shM.1 rfl rfl hl.1 (Nat.le_of_ble_eq_true rfl) dX14_readMan_20 ⟨Nat.le_refl _, Nat.le_refl _⟩ rfl (fun H locs hR hS => ?_)
    have hR : RS G K (ov I [(1105, o, rr4.1), (1106, o, rr4.2.1), (1107, o, rr4.2.2.1), (1108, o, rr4.2.2.2.1), (1109, o, rr4.2.2.2.2.1), (1110, o, i_fault), (1111, o, i_at), (1113, o, i_told)]) (ov J [(1112, o, rr4.2.2.2.2.2)]) X (ova A [((o + 1), a_tape), ((o + 3), a_read)]) (ova B [((o + 7), b_readName)]) Q H := hR.to (ov_merge (l := [(1105, o, i_to), (1106, o, i_from), (1107, o, i_kind), (1108, o, i_number), (1109, o, i_sign), (1110, o, i_fault), (1111, o, i_at), (1113, o, i_told)]) rfl [0, 1, 2, 3, 4] [(1105, o, rr4.1), (1106, o, rr4.2.1), (1107, o, rr4.2.2.1), (1108, o, rr4.2.2.2.1), (1109, o, rr4.2.2.2.2.1)] rfl rfl) (ov_merge (l := [(1112, o, j_word)]) rfl [0] [(1112, o, rr4.2.2.2.2.2)] rfl rfl) rfl rfl rfl rfl
    refine lv_aload_n hx hb dX14_readMan_23 rfl (lv_at hl 1 rfl) ?_
    obtain ⟨rr5, hrr5, hf⟩ := bind_s hf
    refine g0_cV (rm := (2, 46)) (As := []) (rest := []) ⟨hx, hb, hml, hown, hts⟩ hG hR hS (m14_isName l G K (ov I [(1105, o, rr4.1), (1106, o, rr4.2.1), (1107, o, rr4.2.2.1), (1108, o, rr4.2.2.2.1), (1109, o, rr4.2.2.2.2.1), (1110, o, i_fault), (1111, o, i_at), (1113, o, i_told)]) (ov J [(1112, o, rr4.2.2.2.2.2)]) X (ova A [((o + 1), a_tape), ((o + 3), a_read)]) (ova B [((o + 7), b_readName)]) Q o shM rr4.2.2.1 rr4.2.2.2.2.2 (ov_get 2 rfl rfl) (ov_get 0 rfl rfl) rr5 hrr5) (cwV 0 hts gi_X14_247 rfl rfl rfl hd_X14_isName ⟨Nat.le_of_ble_eq_true rfl, Nat.le_of_ble_eq_true rfl⟩) shM.1 rfl rfl hl.1 (Nat.le_of_ble_eq_true rfl) dX14_readMan_24 ⟨Nat.le_refl _, Nat.le_refl _⟩ rfl (fun H locs hR hS => ?_)
    refine lv_if_ne (tgt := 36) hx hb dX14_readMan_27 (by decide) (fun c6 => ?_) (fun c6 => ?_)
    · have hf := ite_f c6 hf
      refine lv_iconst (v := 0) hx hb dX14_readMan_36 li_0 ?_
      refine lv_istore_n (lv' := [(2, .int (0 : Int32)), (1, .int v2), (0, .ref o)]) hx hb dX14_readMan_37 rfl hl (by decide) rfl (fun ls hl => ?_)
      obtain ⟨rl7, hw7, hfo7⟩ := bind_s hf
      have hx7_0 : ∀ (x7_0 : Unit), f14_readMan_e7_0 i_size i_limit i_fault i_at i_told a_tape a_read b_readName v2 rr4 x7_0 = some out → ∀ (H : Heap) (locs : List Loc) (ls : Array Slot), RS G K (ov I [(1105, o, rr4.1), (1106, o, rr4.2.1), (1107, o, rr4.2.2.1), (1108, o, rr4.2.2.2.1), (1109, o, rr4.2.2.2.2.1), (1110, o, i_fault), (1111, o, i_at), (1113, o, i_told)]) (ov J [(1112, o, rr4.2.2.2.2.2)]) X (ova A [((o + 1), a_tape), ((o + 3), a_read)]) (ova B [((o + 7), b_readName)]) Q H → va_S (gA G) s.heap H locs → lv_has ls 3 [(0, .ref o), (1, .int v2)] → W p l e ({ frames := 3, cells := 0, slots := 0, locals := 67 } : Room) s m args below meth c H locs 0 0 Z (F0 m 69 ls []) := by
        intro x7_0 hf H locs ls hR hS hl
        unfold f14_readMan_e7_0 at hf
        refine lv_aload_n hx hb dX14_readMan_69 rfl (lv_at hl 0 rfl) ?_
        refine g_getr (b := (o + 7)) hx hb hts hown hG hR gFx_X14_29_11 shM.1 ((shM.2 6 _ rfl).2) dX14_readMan_70 ?_
        refine lv_iload_n hx hb dX14_readMan_73 rfl (lv_at hl 1 rfl) ?_
        refine lv_aload_n hx hb dX14_readMan_74 rfl (lv_at hl 0 rfl) ?_
        refine n_getj (v := rr4.2.2.2.2.2) hx hb hts hown hG hR gFj_X14_183_11 shM.1 (ov_get 0 rfl rfl) dX14_readMan_75 ?_
        obtain ⟨c8, hf⟩ := gd_some hf
        obtain ⟨u9, eu9, hf⟩ := lt_some hf
        refine n_last (la' := [((o + 7), u9)]) hx hb hG hR hS k_b_readName c8 hN_B 0 rfl eu9 rfl dX14_readMan_78 (fun H locs hR hS => ?_)
        refine lv_aload_n hx hb dX14_readMan_79 rfl (lv_at hl 0 rfl) ?_
        obtain ⟨rr10, hrr10, hf⟩ := bind_s hf
        refine g0_cVv (rm := (1, 21)) (As := []) (rest := []) ⟨hx, hb, hml, hown, hts⟩ hG hR hS (m14_go l G K (ov I [(1105, o, rr4.1), (1106, o, rr4.2.1), (1107, o, rr4.2.2.1), (1108, o, rr4.2.2.2.1), (1109, o, rr4.2.2.2.2.1), (1110, o, i_fault), (1111, o, i_at), (1113, o, i_told)]) (ov J [(1112, o, rr4.2.2.2.2.2)]) X (ova A [((o + 1), a_tape), ((o + 3), a_read)]) (ova B [((o + 7), u9)]) Q o shM i_size i_limit rr4.1 rr4.2.1 rr4.2.2.1 rr4.2.2.2.1 rr4.2.2.2.2.1 rr4.2.2.2.2.2 a_tape ((congrFun (ov_no rfl) _).trans e_i_size) ((congrFun (ov_no rfl) _).trans e_i_limit) (ov_get 0 rfl rfl) (ov_get 1 rfl rfl) (ov_get 2 rfl rfl) (ov_get 3 rfl rfl) (ov_get 4 rfl rfl) (ov_get 0 rfl rfl) (ova_get 0 hN_A rfl) rr10 hrr10) (cwV 0 hts gi_X14_226 rfl rfl rfl hd_X14_go ⟨Nat.le_of_ble_eq_true rfl, Nat.le_of_ble_eq_true rfl⟩) shM.1 rfl rfl hl.1 (Nat.le_of_ble_eq_true rfl) dX14_readMan_80 ⟨Nat.le_refl _, Nat.le_refl _⟩ rfl (fun H locs hR hS => ?_)
        have hR : RS G K (ov I [(1105, o, rr10.1), (1106, o, rr10.2.1), (1107, o, rr10.2.2.1), (1108, o, rr10.2.2.2.1), (1109, o, rr10.2.2.2.2.1), (1110, o, i_fault), (1111, o, i_at), (1113, o, i_told)]) (ov J [(1112, o, rr10.2.2.2.2.2)]) X (ova A [((o + 1), a_tape), ((o + 3), a_read)]) (ova B [((o + 7), u9)]) Q H := hR.to (ov_merge (l := [(1105, o, rr4.1), (1106, o, rr4.2.1), (1107, o, rr4.2.2.1), (1108, o, rr4.2.2.2.1), (1109, o, rr4.2.2.2.2.1), (1110, o, i_fault), (1111, o, i_at), (1113, o, i_told)]) rfl [0, 1, 2, 3, 4] [(1105, o, rr10.1), (1106, o, rr10.2.1), (1107, o, rr10.2.2.1), (1108, o, rr10.2.2.2.1), (1109, o, rr10.2.2.2.2.1)] rfl rfl) (ov_merge (l := [(1112, o, rr4.2.2.2.2.2)]) rfl [0] [(1112, o, rr10.2.2.2.2.2)] rfl rfl) rfl rfl rfl rfl
        refine lv_iconst (v := 0) hx hb dX14_readMan_83 li_0 ?_
        refine lv_istore_n (lv' := [(2, .int (0 : Int32)), (0, .ref o), (1, .int v2)]) hx hb dX14_readMan_84 rfl hl (by decide) rfl (fun ls hl => ?_)
        obtain ⟨rl11, hw11, hfo11⟩ := bind_s hf
        have hx11_0 : ∀ (x11_0 : Int32 × Int32 × Int32 × Int32 × Int32 × Int32 × Int32 × Int32 × Int64 × (Nat → Int32)), f14_readMan_e11_0 u9 x11_0 = some out → ∀ (H : Heap) (locs : List Loc) (ls : Array Slot), RS G K (ov I [(1105, o, x11_0.1), (1106, o, x11_0.2.1), (1107, o, x11_0.2.2.1), (1108, o, x11_0.2.2.2.1), (1109, o, x11_0.2.2.2.2.1), (1110, o, x11_0.2.2.2.2.2.1), (1111, o, x11_0.2.2.2.2.2.2.1), (1113, o, x11_0.2.2.2.2.2.2.2.1)]) (ov J [(1112, o, x11_0.2.2.2.2.2.2.2.2.1)]) X (ova A [((o + 1), a_tape), ((o + 3), x11_0.2.2.2.2.2.2.2.2.2)]) (ova B [((o + 7), u9)]) Q H → va_S (gA G) s.heap H locs → lv_has ls 3 [(0, .ref o)] → W p l e ({ frames := 3, cells := 0, slots := 0, locals := 67 } : Room) s m args below meth c H locs 0 0 Z (F0 m 135 ls []) := by
          intro x11_0 hf H locs ls hR hS hl
          unfold f14_readMan_e11_0 at hf
          refine lv_aload_n hx hb dX14_readMan_135 rfl (lv_at hl 0 rfl) ?_
          refine g_getr (b := (o + 3)) hx hb hts hown hG hR gFx_X14_16_11 shM.1 ((shM.2 2 _ rfl).2) dX14_readMan_136 ?_
          refine lv_iconst (v := 0) hx hb dX14_readMan_139 li_0 ?_
          refine lv_dup2_11 hx hb dX14_readMan_140 rfl rfl ?_
          obtain ⟨c12, hf⟩ := gd_some hf
          obtain ⟨v13, ev13, hf⟩ := lt_some hf
          refine n_iald (x := x11_0.2.2.2.2.2.2.2.2.2) hx hb hG hR k_a_read c12 (ova_get 1 hN_A rfl) ev13 dX14_readMan_141 ?_
          refine lv_iconst (v := 1) hx hb dX14_readMan_142 li_1 ?_
          obtain ⟨v14, ev14, hf⟩ := lt_some hf
          refine n_iadd hx hb ev14 dX14_readMan_143 ?_
          obtain ⟨c15, hf⟩ := gd_some hf
          obtain ⟨u16, eu16, hf⟩ := lt_some hf
          refine n_iast (la' := [((o + 1), a_tape), ((o + 3), u16)]) hx hb hG hR hS k_a_read c15 hN_A 1 rfl eu16 rfl dX14_readMan_144 (fun H locs hR hS => ?_)
          refine lv_iconst (v := 1) hx hb dX14_readMan_145 li_1 ?_
          obtain rfl := some_i hf
          exact hend _ _ _ _ dX14_readMan_146 nz_1 hR hS
        have hx11_1 : ∀ (x11_1 : Int32 × Int32 × Int32 × Int32 × Int32 × Int32 × Int32 × Int32 × Int32 × Int64 × (Nat → Int32) × (Nat → Int64)), f14_readMan_e11_1 x11_1 = some out → ∀ (pc : Nat) (H : Heap) (locs : List Loc) (ls : Array Slot), decode cX14_readMan pc = .ok (.ireturn, 1) → narrow .boolean (.int x11_1.1) = .int x11_1.1 → RS G K (ov I [(1105, o, x11_1.2.1), (1106, o, x11_1.2.2.1), (1107, o, x11_1.2.2.2.1), (1108, o, x11_1.2.2.2.2.1), (1109, o, x11_1.2.2.2.2.2.1), (1110, o, x11_1.2.2.2.2.2.2.1), (1111, o, x11_1.2.2.2.2.2.2.2.1), (1113, o, x11_1.2.2.2.2.2.2.2.2.1)]) (ov J [(1112, o, x11_1.2.2.2.2.2.2.2.2.2.1)]) X (ova A [((o + 1), a_tape), ((o + 3), x11_1.2.2.2.2.2.2.2.2.2.2.1)]) (ova B [((o + 7), x11_1.2.2.2.2.2.2.2.2.2.2.2)]) Q H → va_S (gA G) s.heap H locs → W p l e ({ frames := 3, cells := 0, slots := 0, locals := 67 } : Room) s m args below meth c H locs 0 0 Z (F0 m pc ls [.int x11_1.1]) := by
          intro x11_1 hf pc H locs ls hd hz hR hS
          unfold f14_readMan_e11_1 at hf
          obtain rfl := some_i hf
          exact hend _ _ _ _ hd hz hR hS
        refine whl_walk (P := fun (s11 : Int32 × Int32 × Int32 × Int32 × Int32 × Int32 × Int32 × Int32 × Int32 × Int64 × (Nat → Int32)) => ∀ (H : Heap) (locs : List Loc) (ls : Array Slot), RS G K (ov I [(1105, o, s11.2.1), (1106, o, s11.2.2.1), (1107, o, s11.2.2.2.1), (1108, o, s11.2.2.2.2.1), (1109, o, s11.2.2.2.2.2.1), (1110, o, s11.2.2.2.2.2.2.1), (1111, o, s11.2.2.2.2.2.2.2.1), (1113, o, s11.2.2.2.2.2.2.2.2.1)]) (ov J [(1112, o, s11.2.2.2.2.2.2.2.2.2.1)]) X (ova A [((o + 1), a_tape), ((o + 3), s11.2.2.2.2.2.2.2.2.2.2)]) (ova B [((o + 7), u9)]) Q H → va_S (gA G) s.heap H locs → lv_has ls 3 [(0, .ref o), (1, .int v2), (2, .int s11.1)] → W p l e ({ frames := 3, cells := 0, slots := 0, locals := 67 } : Room) s m args below meth c H locs 0 0 Z (F0 m 85 ls [])) (r := rl11) ?_ FU _ hw11 _ _ _ hR hS (lv_sub hl [1, 2, 0] rfl)
        clear hR hS hl hf
        intro s11 o11 hf hk11 H locs ls hR hS hl
        obtain ⟨w11_2, w11_i_to, w11_i_from, w11_i_kind, w11_i_number, w11_i_sign, w11_i_fault, w11_i_at, w11_i_told, w11_j_word, w11_a_read⟩ := s11
        have hf : f14_readMan_s11 i_size i_limit a_tape v2 u9 w11_2 w11_i_to w11_i_from w11_i_kind w11_i_number w11_i_sign w11_i_fault w11_i_at w11_i_told w11_j_word w11_a_read = some o11 := hf
        have hR : RS G K (ov I [(1105, o, w11_i_to), (1106, o, w11_i_from), (1107, o, w11_i_kind), (1108, o, w11_i_number), (1109, o, w11_i_sign), (1110, o, w11_i_fault), (1111, o, w11_i_at), (1113, o, w11_i_told)]) (ov J [(1112, o, w11_j_word)]) X (ova A [((o + 1), a_tape), ((o + 3), w11_a_read)]) (ova B [((o + 7), u9)]) Q H := hR
        have hl : lv_has ls 3 [(0, .ref o), (1, .int v2), (2, .int w11_2)] := hl
        unfold f14_readMan_s11 at hf
        refine lv_iload_n hx hb dX14_readMan_85 rfl (lv_at hl 2 rfl) ?_
        refine lv_iconst (v := 2) hx hb dX14_readMan_86 li_2 ?_
        refine lv_icmp_gt (tgt := 135) hx hb dX14_readMan_87 (by decide) (fun c17 => ?_) (fun c17 => ?_)
        · have hf := ite_t c17 hf
          obtain rfl := some_i hf
          replace hk11 : _ = rl11 := hk11
          subst hk11
          exact hx11_0 (w11_i_to, w11_i_from, w11_i_kind, w11_i_number, w11_i_sign, w11_i_fault, w11_i_at, w11_i_told, w11_j_word, w11_a_read) (el_l hfo11) _ _ _ hR hS (lv_sub hl [0] rfl)
        · have hf := ite_f c17 hf
          refine lv_aload_n hx hb dX14_readMan_90 rfl (lv_at hl 0 rfl) ?_
          refine lv_iconst (v := 1) hx hb dX14_readMan_91 li_1 ?_
          refine lv_iload_n hx hb dX14_readMan_92 rfl (lv_at hl 2 rfl) ?_
          refine lv_iconst (v := 2) hx hb dX14_readMan_93 li_2 ?_
          have hj104 : ∀ (j104_s0 : Int32), f14_readMan_j104 i_size i_limit a_tape v2 u9 w11_2 w11_i_to w11_i_from w11_i_kind w11_i_number w11_i_sign w11_i_fault w11_i_at w11_i_told w11_j_word w11_a_read j104_s0 = some o11 → ∀ (H : Heap) (locs : List Loc) (ls : Array Slot), RS G K (ov I [(1105, o, w11_i_to), (1106, o, w11_i_from), (1107, o, w11_i_kind), (1108, o, w11_i_number), (1109, o, w11_i_sign), (1110, o, w11_i_fault), (1111, o, w11_i_at), (1113, o, w11_i_told)]) (ov J [(1112, o, w11_j_word)]) X (ova A [((o + 1), a_tape), ((o + 3), w11_a_read)]) (ova B [((o + 7), u9)]) Q H → va_S (gA G) s.heap H locs → lv_has ls 3 [(0, .ref o), (1, .int v2), (2, .int w11_2)] → W p l e ({ frames := 3, cells := 0, slots := 0, locals := 67 } : Room) s m args below meth c H locs 0 0 Z (F0 m 104 ls [.int j104_s0, .int (1 : Int32), .ref o]) := by
            intro j104_s0 hf H locs ls hR hS hl
            unfold f14_readMan_j104 at hf
            obtain ⟨rr18, hrr18, hf⟩ := bind_s hf
            refine g0_cV (rm := (2, 45)) (As := [.int (1 : Int32), .int j104_s0]) (rest := []) ⟨hx, hb, hml, hown, hts⟩ hG hR hS (m14_readNumber l G K (ov I [(1105, o, w11_i_to), (1106, o, w11_i_from), (1107, o, w11_i_kind), (1108, o, w11_i_number), (1109, o, w11_i_sign), (1110, o, w11_i_fault), (1111, o, w11_i_at), (1113, o, w11_i_told)]) (ov J [(1112, o, w11_j_word)]) X (ova A [((o + 1), a_tape), ((o + 3), w11_a_read)]) (ova B [((o + 7), u9)]) Q o shM (1 : Int32) j104_s0 i_size i_limit w11_i_to w11_i_from w11_i_kind w11_i_number w11_i_sign w11_i_fault w11_i_at w11_i_told w11_j_word a_tape ((congrFun (ov_no rfl) _).trans e_i_size) ((congrFun (ov_no rfl) _).trans e_i_limit) (ov_get 0 rfl rfl) (ov_get 1 rfl rfl) (ov_get 2 rfl rfl) (ov_get 3 rfl rfl) (ov_get 4 rfl rfl) (ov_get 5 rfl rfl) (ov_get 6 rfl rfl) (ov_get 7 rfl rfl) (ov_get 0 rfl rfl) (ova_get 0 hN_A rfl) rr18 hrr18) (cwV 2 hts gi_X14_251 rfl rfl rfl hd_X14_readNumber ⟨Nat.le_of_ble_eq_true rfl, Nat.le_of_ble_eq_true rfl⟩) shM.1 rfl rfl hl.1 (Nat.le_of_ble_eq_true rfl) dX14_readMan_104 ⟨Nat.le_refl _, Nat.le_refl _⟩ rfl (fun H locs hR hS => ?_)
            have hR : RS G K (ov I [(1105, o, rr18.2.1), (1106, o, rr18.2.2.1), (1107, o, rr18.2.2.2.1), (1108, o, rr18.2.2.2.2.1), (1109, o, rr18.2.2.2.2.2.1), (1110, o, rr18.2.2.2.2.2.2.1), (1111, o, rr18.2.2.2.2.2.2.2.1), (1113, o, rr18.2.2.2.2.2.2.2.2.1)]) (ov J [(1112, o, rr18.2.2.2.2.2.2.2.2.2)]) X (ova A [((o + 1), a_tape), ((o + 3), w11_a_read)]) (ova B [((o + 7), u9)]) Q H := hR.to (ov_merge (l := [(1105, o, w11_i_to), (1106, o, w11_i_from), (1107, o, w11_i_kind), (1108, o, w11_i_number), (1109, o, w11_i_sign), (1110, o, w11_i_fault), (1111, o, w11_i_at), (1113, o, w11_i_told)]) rfl [0, 1, 2, 3, 4, 5, 6, 7] [(1105, o, rr18.2.1), (1106, o, rr18.2.2.1), (1107, o, rr18.2.2.2.1), (1108, o, rr18.2.2.2.2.1), (1109, o, rr18.2.2.2.2.2.1), (1110, o, rr18.2.2.2.2.2.2.1), (1111, o, rr18.2.2.2.2.2.2.2.1), (1113, o, rr18.2.2.2.2.2.2.2.2.1)] rfl rfl) (ov_merge (l := [(1112, o, w11_j_word)]) rfl [0] [(1112, o, rr18.2.2.2.2.2.2.2.2.2)] rfl rfl) rfl rfl rfl rfl
            refine lv_if_ne (tgt := 112) hx hb dX14_readMan_107 (by decide) (fun c19 => ?_) (fun c19 => ?_)
            · have hf := ite_f c19 hf
              refine lv_aload_n hx hb dX14_readMan_112 rfl (lv_at hl 0 rfl) ?_
              refine g_getr (b := (o + 3)) hx hb hts hown hG hR gFx_X14_16_11 shM.1 ((shM.2 2 _ rfl).2) dX14_readMan_113 ?_
              refine lv_bipush (v := 20) hx hb dX14_readMan_116 lb_20 ?_
              refine lv_iconst (v := 3) hx hb dX14_readMan_118 li_3 ?_
              refine lv_iload_n hx hb dX14_readMan_119 rfl (lv_at hl 1 rfl) ?_
              obtain ⟨v20, ev20, hf⟩ := lt_some hf
              refine n_imul hx hb ev20 dX14_readMan_120 ?_
              obtain ⟨v21, ev21, hf⟩ := lt_some hf
              refine n_iadd hx hb ev21 dX14_readMan_121 ?_
              refine lv_iload_n hx hb dX14_readMan_122 rfl (lv_at hl 2 rfl) ?_
              obtain ⟨v22, ev22, hf⟩ := lt_some hf
              refine n_iadd hx hb ev22 dX14_readMan_123 ?_
              refine lv_aload_n hx hb dX14_readMan_124 rfl (lv_at hl 0 rfl) ?_
              refine n_geti (v := rr18.2.2.2.2.2.2.2.2.1) hx hb hts hown hG hR gFi_X14_223_11 shM.1 (ov_get 7 rfl rfl) dX14_readMan_125 ?_
              obtain ⟨c23, hf⟩ := gd_some hf
              obtain ⟨u24, eu24, hf⟩ := lt_some hf
              refine n_iast (la' := [((o + 1), a_tape), ((o + 3), u24)]) hx hb hG hR hS k_a_read c23 hN_A 1 rfl eu24 rfl dX14_readMan_128 (fun H locs hR hS => ?_)
              obtain ⟨v25, ev25, hf⟩ := lt_some hf
              refine lv_iinc (k := 2) (v := v25) (lv' := [(2, .int v25), (0, .ref o), (1, .int v2)]) hx hb dX14_readMan_129 hl rfl (by rw [ev25]; rfl) (by decide) rfl (fun ls hl => ?_)
              refine lv_goto (tgt := 85) hx hb dX14_readMan_132 (by decide) ?_
              obtain rfl := some_i hf
              exact hk11 _ _ _ hR hS (lv_sub hl [1, 2, 0] rfl)
            · have hf := ite_t c19 hf
              refine lv_iconst (v := 0) hx hb dX14_readMan_110 li_0 ?_
              obtain rfl := some_i hf
              replace hk11 : _ = rl11 := hk11
              subst hk11
              exact hx11_1 ((0 : Int32), rr18.2.1, rr18.2.2.1, rr18.2.2.2.1, rr18.2.2.2.2.1, rr18.2.2.2.2.2.1, rr18.2.2.2.2.2.2.1, rr18.2.2.2.2.2.2.2.1, rr18.2.2.2.2.2.2.2.2.1, rr18.2.2.2.2.2.2.2.2.2, w11_a_read, u9) (el_r hfo11) _ _ _ _ dX14_readMan_111 nz_0 hR hS
          refine lv_icmp_ne (tgt := 102) hx hb dX14_readMan_94 (by decide) (fun c26 => ?_) (fun c26 => ?_)
          · have hf := ite_f c26 hf
            refine lv_bipush (v := 9) hx hb dX14_readMan_102 lb_9 ?_
            exact hj104 (9 : Int32) hf _ _ _ hR hS (lv_sub hl [0, 1, 2] rfl)
          · have hf := ite_t c26 hf
            refine lv_bipush (v := 99) hx hb dX14_readMan_97 lb_99 ?_
            refine lv_goto (tgt := 104) hx hb dX14_readMan_99 (by decide) ?_
            exact hj104 (99 : Int32) hf _ _ _ hR hS (lv_sub hl [0, 1, 2] rfl)
      have hx7_1 : ∀ (x7_1 : Unit), f14_readMan_e7_1 i_fault i_at i_told a_read b_readName rr4 x7_1 = some out → ∀ (H : Heap) (locs : List Loc) (ls : Array Slot), RS G K (ov I [(1105, o, rr4.1), (1106, o, rr4.2.1), (1107, o, rr4.2.2.1), (1108, o, rr4.2.2.2.1), (1109, o, rr4.2.2.2.2.1), (1110, o, i_fault), (1111, o, i_at), (1113, o, i_told)]) (ov J [(1112, o, rr4.2.2.2.2.2)]) X (ova A [((o + 1), a_tape), ((o + 3), a_read)]) (ova B [((o + 7), b_readName)]) Q H → va_S (gA G) s.heap H locs → lv_has ls 3 [(0, .ref o)] → W p l e ({ frames := 3, cells := 0, slots := 0, locals := 67 } : Room) s m args below meth c H locs 0 0 Z (F0 m 57 ls []) := by
        intro x7_1 hf H locs ls hR hS hl
        unfold f14_readMan_e7_1 at hf
        refine lv_aload_n hx hb dX14_readMan_57 rfl (lv_at hl 0 rfl) ?_
        refine lv_iconst (v := 3) hx hb dX14_readMan_58 li_3 ?_
        obtain ⟨rr27, hrr27, hf⟩ := bind_s hf
        refine g0_cV (rm := (0, 0)) (As := [.int (3 : Int32)]) (rest := []) ⟨hx, hb, hml, hown, hts⟩ hG hR hS (m14_bad l G K (ov I [(1105, o, rr4.1), (1106, o, rr4.2.1), (1107, o, rr4.2.2.1), (1108, o, rr4.2.2.2.1), (1109, o, rr4.2.2.2.2.1), (1110, o, i_fault), (1111, o, i_at), (1113, o, i_told)]) (ov J [(1112, o, rr4.2.2.2.2.2)]) X (ova A [((o + 1), a_tape), ((o + 3), a_read)]) (ova B [((o + 7), b_readName)]) Q o shM (3 : Int32) rr4.2.1 rr4.2.2.1 i_fault i_at (ov_get 1 rfl rfl) (ov_get 2 rfl rfl) (ov_get 5 rfl rfl) (ov_get 6 rfl rfl) rr27 hrr27) (cwV 1 hts gi_X14_216 rfl rfl rfl hd_X14_bad ⟨Nat.le_of_ble_eq_true rfl, Nat.le_of_ble_eq_true rfl⟩) shM.1 rfl rfl hl.1 (Nat.le_of_ble_eq_true rfl) dX14_readMan_59 ⟨Nat.le_refl _, Nat.le_refl _⟩ rfl (fun H locs hR hS => ?_)
        have hR : RS G K (ov I [(1105, o, rr4.1), (1106, o, rr4.2.1), (1107, o, rr4.2.2.1), (1108, o, rr4.2.2.2.1), (1109, o, rr4.2.2.2.2.1), (1110, o, rr27.2.1), (1111, o, rr27.2.2), (1113, o, i_told)]) (ov J [(1112, o, rr4.2.2.2.2.2)]) X (ova A [((o + 1), a_tape), ((o + 3), a_read)]) (ova B [((o + 7), b_readName)]) Q H := hR.to (ov_merge (l := [(1105, o, rr4.1), (1106, o, rr4.2.1), (1107, o, rr4.2.2.1), (1108, o, rr4.2.2.2.1), (1109, o, rr4.2.2.2.2.1), (1110, o, i_fault), (1111, o, i_at), (1113, o, i_told)]) rfl [5, 6] [(1110, o, rr27.2.1), (1111, o, rr27.2.2)] rfl rfl) rfl rfl rfl rfl rfl
        obtain ⟨hz9, hf⟩ := gd_some hf
        obtain rfl := some_i hf
        exact hend _ _ _ _ dX14_readMan_62 (congrArg Value.int hz9) hR hS
      refine whl_walk (P := fun (s7 : Int32) => ∀ (H : Heap) (locs : List Loc) (ls : Array Slot), RS G K (ov I [(1105, o, rr4.1), (1106, o, rr4.2.1), (1107, o, rr4.2.2.1), (1108, o, rr4.2.2.2.1), (1109, o, rr4.2.2.2.2.1), (1110, o, i_fault), (1111, o, i_at), (1113, o, i_told)]) (ov J [(1112, o, rr4.2.2.2.2.2)]) X (ova A [((o + 1), a_tape), ((o + 3), a_read)]) (ova B [((o + 7), b_readName)]) Q H → va_S (gA G) s.heap H locs → lv_has ls 3 [(0, .ref o), (1, .int v2), (2, .int s7)] → W p l e ({ frames := 3, cells := 0, slots := 0, locals := 67 } : Room) s m args below meth c H locs 0 0 Z (F0 m 38 ls [])) (r := rl7) ?_ FU _ hw7 _ _ _ hR hS (lv_sub hl [2, 1, 0] rfl)
      clear hR hS hl hf
      intro s7 o7 hf hk7 H locs ls hR hS hl
      obtain ⟨w7_2, rfl⟩ : ∃ z, z = s7 := ⟨_, rfl⟩
      have hf : f14_readMan_s7 b_readName v2 rr4 w7_2 = some o7 := hf
      have hR : RS G K (ov I [(1105, o, rr4.1), (1106, o, rr4.2.1), (1107, o, rr4.2.2.1), (1108, o, rr4.2.2.2.1), (1109, o, rr4.2.2.2.2.1), (1110, o, i_fault), (1111, o, i_at), (1113, o, i_told)]) (ov J [(1112, o, rr4.2.2.2.2.2)]) X (ova A [((o + 1), a_tape), ((o + 3), a_read)]) (ova B [((o + 7), b_readName)]) Q H := hR
      have hl : lv_has ls 3 [(0, .ref o), (1, .int v2), (2, .int w7_2)] := hl
      unfold f14_readMan_s7 at hf
      refine lv_iload_n hx hb dX14_readMan_38 rfl (lv_at hl 2 rfl) ?_
      refine lv_iload_n hx hb dX14_readMan_39 rfl (lv_at hl 1 rfl) ?_
      refine lv_icmp_ge (tgt := 69) hx hb dX14_readMan_40 (by decide) (fun c28 => ?_) (fun c28 => ?_)
      · have hf := ite_t c28 hf
        obtain rfl := some_i hf
        replace hk7 : _ = rl7 := hk7
        subst hk7
        exact hx7_0 () (el_l hfo7) _ _ _ hR hS (lv_sub hl [0, 1] rfl)
      · have hf := ite_f c28 hf
        refine lv_aload_n hx hb dX14_readMan_43 rfl (lv_at hl 0 rfl) ?_
        refine g_getr (b := (o + 7)) hx hb hts hown hG hR gFx_X14_29_11 shM.1 ((shM.2 6 _ rfl).2) dX14_readMan_44 ?_
        refine lv_iload_n hx hb dX14_readMan_47 rfl (lv_at hl 2 rfl) ?_
        obtain ⟨c29, hf⟩ := gd_some hf
        obtain ⟨v30, ev30, hf⟩ := lt_some hf
        refine n_lald (x := b_readName) hx hb hG hR k_b_readName c29 (ova_get 0 hN_B rfl) ev30 dX14_readMan_48 ?_
        refine lv_aload_n hx hb dX14_readMan_49 rfl (lv_at hl 0 rfl) ?_
        refine n_getj (v := rr4.2.2.2.2.2) hx hb hts hown hG hR gFj_X14_183_11 shM.1 (ov_get 0 rfl rfl) dX14_readMan_50 ?_
        obtain ⟨v31, ev31, hf⟩ := lt_some hf
        refine n_lcmp hx hb ev31 dX14_readMan_53 ?_
        refine lv_if_ne (tgt := 63) hx hb dX14_readMan_54 (by decide) (fun c32 => ?_) (fun c32 => ?_)
        · have hf := ite_f c32 hf
          obtain ⟨v33, ev33, hf⟩ := lt_some hf
          refine lv_iinc (k := 2) (v := v33) (lv' := [(2, .int v33), (0, .ref o), (1, .int v2)]) hx hb dX14_readMan_63 hl rfl (by rw [ev33]; rfl) (by decide) rfl (fun ls hl => ?_)
          refine lv_goto (tgt := 38) hx hb dX14_readMan_66 (by decide) ?_
          obtain rfl := some_i hf
          exact hk7 _ _ _ hR hS (lv_sub hl [1, 2, 0] rfl)
        · have hf := ite_t c32 hf
          obtain rfl := some_i hf
          replace hk7 : _ = rl7 := hk7
          subst hk7
          exact hx7_1 () (el_r hfo7) _ _ _ hR hS (lv_sub hl [0] rfl)
    · have hf := ite_t c6 hf
      refine lv_aload_n hx hb dX14_readMan_30 rfl (lv_at hl 1 rfl) ?_
      refine lv_iconst (v := 1) hx hb dX14_readMan_31 li_1 ?_
      obtain ⟨rr34, hrr34, hf⟩ := bind_s hf
      refine g0_cV (rm := (0, 0)) (As := [.int (1 : Int32)]) (rest := []) ⟨hx, hb, hml, hown, hts⟩ hG hR hS (m14_bad l G K (ov I [(1105, o, rr4.1), (1106, o, rr4.2.1), (1107, o, rr4.2.2.1), (1108, o, rr4.2.2.2.1), (1109, o, rr4.2.2.2.2.1), (1110, o, i_fault), (1111, o, i_at), (1113, o, i_told)]) (ov J [(1112, o, rr4.2.2.2.2.2)]) X (ova A [((o + 1), a_tape), ((o + 3), a_read)]) (ova B [((o + 7), b_readName)]) Q o shM (1 : Int32) rr4.2.1 rr4.2.2.1 i_fault i_at (ov_get 1 rfl rfl) (ov_get 2 rfl rfl) (ov_get 5 rfl rfl) (ov_get 6 rfl rfl) rr34 hrr34) (cwV 1 hts gi_X14_216 rfl rfl rfl hd_X14_bad ⟨Nat.le_of_ble_eq_true rfl, Nat.le_of_ble_eq_true rfl⟩) shM.1 rfl rfl hl.1 (Nat.le_of_ble_eq_true rfl) dX14_readMan_32 ⟨Nat.le_refl _, Nat.le_refl _⟩ rfl (fun H locs hR hS => ?_)
      have hR : RS G K (ov I [(1105, o, rr4.1), (1106, o, rr4.2.1), (1107, o, rr4.2.2.1), (1108, o, rr4.2.2.2.1), (1109, o, rr4.2.2.2.2.1), (1110, o, rr34.2.1), (1111, o, rr34.2.2), (1113, o, i_told)]) (ov J [(1112, o, rr4.2.2.2.2.2)]) X (ova A [((o + 1), a_tape), ((o + 3), a_read)]) (ova B [((o + 7), b_readName)]) Q H := hR.to (ov_merge (l := [(1105, o, rr4.1), (1106, o, rr4.2.1), (1107, o, rr4.2.2.1), (1108, o, rr4.2.2.2.1), (1109, o, rr4.2.2.2.2.1), (1110, o, i_fault), (1111, o, i_at), (1113, o, i_told)]) rfl [5, 6] [(1110, o, rr34.2.1), (1111, o, rr34.2.2)] rfl rfl) rfl rfl rfl rfl rfl
      obtain ⟨hz9, hf⟩ := gd_some hf
      obtain rfl := some_i hf
      exact hend _ _ _ _ dX14_readMan_35 (congrArg Value.int hz9) hR hS
  · have hf := ite_t c3 hf
    refine lv_aload_n hx hb dX14_readMan_13 rfl (lv_at hl 1 rfl) ?_
    refine lv_iconst (v := 4) hx hb dX14_readMan_14 li_4 ?_
    obtain ⟨rr35, hrr35, hf⟩ := bind_s hf
    refine g0_cV (rm := (0, 0)) (As := [.int (4 : Int32)]) (rest := []) ⟨hx, hb, hml, hown, hts⟩ hG hR hS (m14_bad l G K (ov I [(1105, o, i_to), (1106, o, i_from), (1107, o, i_kind), (1108, o, i_number), (1109, o, i_sign), (1110, o, i_fault), (1111, o, i_at), (1113, o, i_told)]) (ov J [(1112, o, j_word)]) X (ova A [((o + 1), a_tape), ((o + 3), a_read)]) (ova B [((o + 7), b_readName)]) Q o shM (4 : Int32) i_from i_kind i_fault i_at (ov_get 1 rfl rfl) (ov_get 2 rfl rfl) (ov_get 5 rfl rfl) (ov_get 6 rfl rfl) rr35 hrr35) (cwV 1 hts gi_X14_216 rfl rfl rfl hd_X14_bad ⟨Nat.le_of_ble_eq_true rfl, Nat.le_of_ble_eq_true rfl⟩) shM.1 rfl rfl hl.1 (Nat.le_of_ble_eq_true rfl) dX14_readMan_15 ⟨Nat.le_refl _, Nat.le_refl _⟩ rfl (fun H locs hR hS => ?_)
    have hR : RS G K (ov I [(1105, o, i_to), (1106, o, i_from), (1107, o, i_kind), (1108, o, i_number), (1109, o, i_sign), (1110, o, rr35.2.1), (1111, o, rr35.2.2), (1113, o, i_told)]) (ov J [(1112, o, j_word)]) X (ova A [((o + 1), a_tape), ((o + 3), a_read)]) (ova B [((o + 7), b_readName)]) Q H := hR.to (ov_merge (l := [(1105, o, i_to), (1106, o, i_from), (1107, o, i_kind), (1108, o, i_number), (1109, o, i_sign), (1110, o, i_fault), (1111, o, i_at), (1113, o, i_told)]) rfl [5, 6] [(1110, o, rr35.2.1), (1111, o, rr35.2.2)] rfl rfl) rfl rfl rfl rfl rfl
    obtain ⟨hz9, hf⟩ := gd_some hf
    obtain rfl := some_i hf
    exact hend _ _ _ _ dX14_readMan_18 (congrArg Value.int hz9) hR hS
noncomputable def f14_readOnce_j108 (v4 : Int32) (j108_i_to : Int32) (j108_i_from : Int32) (j108_i_kind : Int32) (j108_i_number : Int32) (j108_i_sign : Int32) (j108_i_fault : Int32) (j108_i_at : Int32) (j108_i_told : Int32) (j108_j_word : Int64) (j108_a_read : Nat → Int32) : Option (Int32 × Int32 × Int32 × Int32 × Int32 × Int32 × Int32 × Int32 × Int32 × Int32 × Int64 × (Nat → Int32)) :=
  some ((0 : Int32), j108_i_to, j108_i_from, j108_i_kind, j108_i_number, j108_i_sign, j108_i_fault, j108_i_at, j108_i_told, v4, j108_j_word, j108_a_read)

noncomputable def f14_readOnce_j137 (v4 : Int32) (j137_i_to : Int32) (j137_i_from : Int32) (j137_i_kind : Int32) (j137_i_number : Int32) (j137_i_sign : Int32) (j137_i_fault : Int32) (j137_i_at : Int32) (j137_i_told : Int32) (j137_j_word : Int64) (j137_a_read : Nat → Int32) : Option (Int32 × Int32 × Int32 × Int32 × Int32 × Int32 × Int32 × Int32 × Int32 × Int32 × Int64 × (Nat → Int32)) :=
  some ((0 : Int32), j137_i_to, j137_i_from, j137_i_kind, j137_i_number, j137_i_sign, j137_i_fault, j137_i_at, j137_i_told, v4, j137_j_word, j137_a_read)

noncomputable def f14_readOnce_e24_0 (i_size : Int32) (i_limit : Int32) (i_fault : Int32) (i_at : Int32) (i_told : Int32) (a_tape : Nat → Int32) (a_read : Nat → Int32) (v4 : Int32) (rr5 : Int32 × Int32 × Int32 × Int32 × Int32 × Int64) (x24_0 : Int32) : Option (Int32 × Int32 × Int32 × Int32 × Int32 × Int32 × Int32 × Int32 × Int32 × Int32 × Int64 × (Nat → Int32)) :=
  if x24_0 = (4 : Int32) then
    (f14_bad (1 : Int32) rr5.2.1 rr5.2.2.1 i_fault i_at).bind fun rr29 =>
    gd (rr29.1 &&& 1 = rr29.1) <|
    some (rr29.1, rr5.1, rr5.2.1, rr5.2.2.1, rr5.2.2.2.1, rr5.2.2.2.2.1, rr29.2.1, rr29.2.2, i_told, v4, rr5.2.2.2.2.2, a_read)
  else
    gd (inb (11 : Int32) 200) <|
    lt (upd a_read (11 : Int32).toNatClampNeg x24_0) fun u27 =>
    (f14_go i_size i_limit rr5.1 rr5.2.1 rr5.2.2.1 rr5.2.2.2.1 rr5.2.2.2.2.1 rr5.2.2.2.2.2 a_tape).bind fun rr28 =>
    some ((1 : Int32), rr28.1, rr28.2.1, rr28.2.2.1, rr28.2.2.2.1, rr28.2.2.2.2.1, i_fault, i_at, i_told, v4, rr28.2.2.2.2.2, u27)

noncomputable def f14_readOnce_s24 (rr5 : Int32 × Int32 × Int32 × Int32 × Int32 × Int64) (w24_2 : Int32) : Option ((Int32) ⊕ (Int32)) :=
  if (4 : Int32) ≤ w24_2 then
    some (.inr w24_2)
  else
    lt ((10 : Int32) + w24_2) fun v31 =>
    (f14_isWord v31 rr5.2.2.1 rr5.2.2.2.2.2).bind fun rr32 =>
    if rr32 = 0 then
      lt (w24_2 + (1 : Int32)) fun v34 =>
      some (.inl v34)
    else
      some (.inr w24_2)

noncomputable def f14_readOnce (p1 : Int32) (i_size : Int32) (i_limit : Int32) (i_to : Int32) (i_from : Int32) (i_kind : Int32) (i_number : Int32) (i_sign : Int32) (i_fault : Int32) (i_at : Int32) (i_told : Int32) (i_had : Int32) (j_word : Int64) (a_tape : Nat → Int32) (a_read : Nat → Int32) : Option (Int32 × Int32 × Int32 × Int32 × Int32 × Int32 × Int32 × Int32 × Int32 × Int32 × Int64 × (Nat → Int32)) :=
  (f14_has i_had p1).bind fun rr1 =>
  if rr1 = 0 then
    lt ((1 : Int32) <<< (p1 &&& 31)) fun v3 =>
    lt (i_had ||| v3) fun v4 =>
    (f14_go i_size i_limit i_to i_from i_kind i_number i_sign j_word a_tape).bind fun rr5 =>
    if p1 = 3 then
      (f14_readInto (1 : Int32) (10 : Int32) (99 : Int32) i_size i_limit rr5.1 rr5.2.1 rr5.2.2.1 rr5.2.2.2.1 rr5.2.2.2.2.1 i_fault i_at i_told rr5.2.2.2.2.2 a_tape a_read).bind fun rr7 =>
      gd (rr7.1 &&& 1 = rr7.1) <|
      some (rr7.1, rr7.2.1, rr7.2.2.1, rr7.2.2.2.1, rr7.2.2.2.2.1, rr7.2.2.2.2.2.1, rr7.2.2.2.2.2.2.1, rr7.2.2.2.2.2.2.2.1, rr7.2.2.2.2.2.2.2.2.1, v4, rr7.2.2.2.2.2.2.2.2.2.1, rr7.2.2.2.2.2.2.2.2.2.2)
    else
    if p1 = 4 then
      (f14_readInto (2 : Int32) (1 : Int32) (30 : Int32) i_size i_limit rr5.1 rr5.2.1 rr5.2.2.1 rr5.2.2.2.1 rr5.2.2.2.2.1 i_fault i_at i_told rr5.2.2.2.2.2 a_tape a_read).bind fun rr9 =>
      if rr9.1 = 0 then
        f14_readOnce_j108 v4 rr9.2.1 rr9.2.2.1 rr9.2.2.2.1 rr9.2.2.2.2.1 rr9.2.2.2.2.2.1 rr9.2.2.2.2.2.2.1 rr9.2.2.2.2.2.2.2.1 rr9.2.2.2.2.2.2.2.2.1 rr9.2.2.2.2.2.2.2.2.2.1 rr9.2.2.2.2.2.2.2.2.2.2
      else
        (f14_readInto (3 : Int32) (1 : Int32) (20 : Int32) i_size i_limit rr9.2.1 rr9.2.2.1 rr9.2.2.2.1 rr9.2.2.2.2.1 rr9.2.2.2.2.2.1 rr9.2.2.2.2.2.2.1 rr9.2.2.2.2.2.2.2.1 rr9.2.2.2.2.2.2.2.2.1 rr9.2.2.2.2.2.2.2.2.2.1 a_tape rr9.2.2.2.2.2.2.2.2.2.2).bind fun rr11 =>
        if rr11.1 = 0 then
          f14_readOnce_j108 v4 rr11.2.1 rr11.2.2.1 rr11.2.2.2.1 rr11.2.2.2.2.1 rr11.2.2.2.2.2.1 rr11.2.2.2.2.2.2.1 rr11.2.2.2.2.2.2.2.1 rr11.2.2.2.2.2.2.2.2.1 rr11.2.2.2.2.2.2.2.2.2.1 rr11.2.2.2.2.2.2.2.2.2.2
        else
          some ((1 : Int32), rr11.2.1, rr11.2.2.1, rr11.2.2.2.1, rr11.2.2.2.2.1, rr11.2.2.2.2.2.1, rr11.2.2.2.2.2.2.1, rr11.2.2.2.2.2.2.2.1, rr11.2.2.2.2.2.2.2.2.1, v4, rr11.2.2.2.2.2.2.2.2.2.1, rr11.2.2.2.2.2.2.2.2.2.2)
    else
    if p1 = 5 then
      (f14_readInto (4 : Int32) (1 : Int32) (30 : Int32) i_size i_limit rr5.1 rr5.2.1 rr5.2.2.1 rr5.2.2.2.1 rr5.2.2.2.2.1 i_fault i_at i_told rr5.2.2.2.2.2 a_tape a_read).bind fun rr14 =>
      if rr14.1 = 0 then
        f14_readOnce_j137 v4 rr14.2.1 rr14.2.2.1 rr14.2.2.2.1 rr14.2.2.2.2.1 rr14.2.2.2.2.2.1 rr14.2.2.2.2.2.2.1 rr14.2.2.2.2.2.2.2.1 rr14.2.2.2.2.2.2.2.2.1 rr14.2.2.2.2.2.2.2.2.2.1 rr14.2.2.2.2.2.2.2.2.2.2
      else
        (f14_readInto (5 : Int32) (0 : Int32) (9999 : Int32) i_size i_limit rr14.2.1 rr14.2.2.1 rr14.2.2.2.1 rr14.2.2.2.2.1 rr14.2.2.2.2.2.1 rr14.2.2.2.2.2.2.1 rr14.2.2.2.2.2.2.2.1 rr14.2.2.2.2.2.2.2.2.1 rr14.2.2.2.2.2.2.2.2.2.1 a_tape rr14.2.2.2.2.2.2.2.2.2.2).bind fun rr16 =>
        if rr16.1 = 0 then
          f14_readOnce_j137 v4 rr16.2.1 rr16.2.2.1 rr16.2.2.2.1 rr16.2.2.2.2.1 rr16.2.2.2.2.2.1 rr16.2.2.2.2.2.2.1 rr16.2.2.2.2.2.2.2.1 rr16.2.2.2.2.2.2.2.2.1 rr16.2.2.2.2.2.2.2.2.2.1 rr16.2.2.2.2.2.2.2.2.2.2
        else
          some ((1 : Int32), rr16.2.1, rr16.2.2.1, rr16.2.2.2.1, rr16.2.2.2.2.1, rr16.2.2.2.2.2.1, rr16.2.2.2.2.2.2.1, rr16.2.2.2.2.2.2.2.1, rr16.2.2.2.2.2.2.2.2.1, v4, rr16.2.2.2.2.2.2.2.2.2.1, rr16.2.2.2.2.2.2.2.2.2.2)
    else
    if p1 = 6 then
      (f14_readInto (6 : Int32) (0 : Int32) (99 : Int32) i_size i_limit rr5.1 rr5.2.1 rr5.2.2.1 rr5.2.2.2.1 rr5.2.2.2.2.1 i_fault i_at i_told rr5.2.2.2.2.2 a_tape a_read).bind fun rr19 =>
      gd (rr19.1 &&& 1 = rr19.1) <|
      some (rr19.1, rr19.2.1, rr19.2.2.1, rr19.2.2.2.1, rr19.2.2.2.2.1, rr19.2.2.2.2.2.1, rr19.2.2.2.2.2.2.1, rr19.2.2.2.2.2.2.2.1, rr19.2.2.2.2.2.2.2.2.1, v4, rr19.2.2.2.2.2.2.2.2.2.1, rr19.2.2.2.2.2.2.2.2.2.2)
    else
    if p1 = 7 then
      (f14_readInto (7 : Int32) (1 : Int32) (99 : Int32) i_size i_limit rr5.1 rr5.2.1 rr5.2.2.1 rr5.2.2.2.1 rr5.2.2.2.2.1 i_fault i_at i_told rr5.2.2.2.2.2 a_tape a_read).bind fun rr21 =>
      gd (rr21.1 &&& 1 = rr21.1) <|
      some (rr21.1, rr21.2.1, rr21.2.2.1, rr21.2.2.2.1, rr21.2.2.2.2.1, rr21.2.2.2.2.2.1, rr21.2.2.2.2.2.2.1, rr21.2.2.2.2.2.2.2.1, rr21.2.2.2.2.2.2.2.2.1, v4, rr21.2.2.2.2.2.2.2.2.2.1, rr21.2.2.2.2.2.2.2.2.2.2)
    else
    if p1 = 8 then
      (f14_readInto (8 : Int32) (1 : Int32) (9 : Int32) i_size i_limit rr5.1 rr5.2.1 rr5.2.2.1 rr5.2.2.2.1 rr5.2.2.2.2.1 i_fault i_at i_told rr5.2.2.2.2.2 a_tape a_read).bind fun rr23 =>
      gd (rr23.1 &&& 1 = rr23.1) <|
      some (rr23.1, rr23.2.1, rr23.2.2.1, rr23.2.2.2.1, rr23.2.2.2.2.1, rr23.2.2.2.2.2.1, rr23.2.2.2.2.2.2.1, rr23.2.2.2.2.2.2.2.1, rr23.2.2.2.2.2.2.2.2.1, v4, rr23.2.2.2.2.2.2.2.2.2.1, rr23.2.2.2.2.2.2.2.2.2.2)
    else
    (whl (fun (s24 : Int32) => f14_readOnce_s24 rr5 s24) FU (0 : Int32)).bind fun rl24 =>
    f14_readOnce_e24_0 i_size i_limit i_fault i_at i_told a_tape a_read v4 rr5 rl24
  else
    (f14_bad (3 : Int32) i_from i_kind i_fault i_at).bind fun rr35 =>
    gd (rr35.1 &&& 1 = rr35.1) <|
    some (rr35.1, i_to, i_from, i_kind, i_number, i_sign, rr35.2.1, rr35.2.2, i_told, i_had, j_word, a_read)
set_option maxHeartbeats 4000000 in
theorem m14_readOnce (l : Launch) (G : gG) (K : gK) (I : gI) (J : gJ) (X : gX) (A : gI) (B : gJ) (Q : gX) (o : Nat) (shM : Sh K X o 11 rows11) (p1 : Int32) (i_size : Int32) (i_limit : Int32) (i_to : Int32) (i_from : Int32) (i_kind : Int32) (i_number : Int32) (i_sign : Int32) (i_fault : Int32) (i_at : Int32) (i_told : Int32) (i_had : Int32) (j_word : Int64) (a_tape : Nat → Int32) (a_read : Nat → Int32) (e_i_size : I 1103 o = i_size) (e_i_limit : I 1104 o = i_limit) (e_i_to : I 1105 o = i_to) (e_i_from : I 1106 o = i_from) (e_i_kind : I 1107 o = i_kind) (e_i_number : I 1108 o = i_number) (e_i_sign : I 1109 o = i_sign) (e_i_fault : I 1110 o = i_fault) (e_i_at : I 1111 o = i_at) (e_i_told : I 1113 o = i_told) (e_i_had : I 1123 o = i_had) (e_j_word : J 1112 o = j_word) (e_a_tape : A (o + 1) = a_tape) (e_a_read : A (o + 3) = a_read) (out : Int32 × Int32 × Int32 × Int32 × Int32 × Int32 × Int32 × Int32 × Int32 × Int32 × Int64 × (Nat → Int32)) (hf : f14_readOnce p1 i_size i_limit i_to i_from i_kind i_number i_sign i_fault i_at i_told i_had j_word a_tape a_read = some out) : GMet l yX14_readOnce cX14_readOnce 3 (some .boolean) (4) (90) G [.ref o, .int p1] K I J X A B Q (some (.int out.1)) K (ov I [(1105, o, out.2.1), (1106, o, out.2.2.1), (1107, o, out.2.2.2.1), (1108, o, out.2.2.2.2.1), (1109, o, out.2.2.2.2.2.1), (1110, o, out.2.2.2.2.2.2.1), (1111, o, out.2.2.2.2.2.2.2.1), (1113, o, out.2.2.2.2.2.2.2.2.1), (1123, o, out.2.2.2.2.2.2.2.2.2.1)]) (ov J [(1112, o, out.2.2.2.2.2.2.2.2.2.2.1)]) X (ova A [((o + 1), a_tape), ((o + 3), out.2.2.2.2.2.2.2.2.2.2.2)]) B Q 0 0 := by
  refine GMet.of (y := yX14_readOnce) rfl (Nat.le_of_ble_eq_true rfl) rfl ?_
  intro p e s m below meth c ls hx hb hr hml hlocks hts hown hname hG hR hl
  have hown : s.vm.findClass RX14 = some m.cls := hown
  have k_a_tape : K (o + 1) = some (.inr (0, 740)) := (shM.2 0 _ rfl).1
  have k_a_read : K (o + 3) = some (.inr (0, 200)) := (shM.2 2 _ rfl).1
  have hN_A : nda [(o + 1), (o + 3)] := nd_off o [1, 3] rfl
  have hR : RS G K (ov I [(1105, o, i_to), (1106, o, i_from), (1107, o, i_kind), (1108, o, i_number), (1109, o, i_sign), (1110, o, i_fault), (1111, o, i_at), (1113, o, i_told), (1123, o, i_had)]) (ov J [(1112, o, j_word)]) X (ova A [((o + 1), a_tape), ((o + 3), a_read)]) B Q s.heap := hR.to (Eq.symm (ov_sc e_i_to (ov_sc e_i_from (ov_sc e_i_kind (ov_sc e_i_number (ov_sc e_i_sign (ov_sc e_i_fault (ov_sc e_i_at (ov_sc e_i_told (ov_sc e_i_had rfl)))))))))) (Eq.symm (ov_sc e_j_word rfl)) rfl (Eq.symm (ova_sc e_a_tape (ova_sc e_a_read rfl))) rfl rfl
  have hS : va_S (gA G) s.heap s.heap [] := va_S.rf
  have hend : ∀ (pc : Nat) (H : Heap) (locs : List Loc) (ls : Array Slot), decode cX14_readOnce pc = .ok (.ireturn, 1) → narrow .boolean (.int out.1) = .int out.1 → RS G K (ov I [(1105, o, out.2.1), (1106, o, out.2.2.1), (1107, o, out.2.2.2.1), (1108, o, out.2.2.2.2.1), (1109, o, out.2.2.2.2.2.1), (1110, o, out.2.2.2.2.2.2.1), (1111, o, out.2.2.2.2.2.2.2.1), (1113, o, out.2.2.2.2.2.2.2.2.1), (1123, o, out.2.2.2.2.2.2.2.2.2.1)]) (ov J [(1112, o, out.2.2.2.2.2.2.2.2.2.2.1)]) X (ova A [((o + 1), a_tape), ((o + 3), out.2.2.2.2.2.2.2.2.2.2.2)]) B Q H → va_S (gA G) s.heap H locs → W p l e ({ frames := 4, cells := 0, slots := 0, locals := 90 } : Room) s m ([.ref o, .int p1] : List Value).toArray below meth c H locs 0 0 (MQ below (gQ G (some (.int out.1)) K (ov I [(1105, o, out.2.1), (1106, o, out.2.2.1), (1107, o, out.2.2.2.1), (1108, o, out.2.2.2.2.1), (1109, o, out.2.2.2.2.2.1), (1110, o, out.2.2.2.2.2.2.1), (1111, o, out.2.2.2.2.2.2.2.1), (1113, o, out.2.2.2.2.2.2.2.2.1), (1123, o, out.2.2.2.2.2.2.2.2.2.1)]) (ov J [(1112, o, out.2.2.2.2.2.2.2.2.2.2.1)]) X (ova A [((o + 1), a_tape), ((o + 3), out.2.2.2.2.2.2.2.2.2.2.2)]) B Q) ([.ref o, .int p1] : List Value).toArray s 0 0 (gA G)) (F0 m pc ls [.int out.1]) := fun pc H locs ls hd hz hR hS => g_zret hx hb hr hlocks hz hG hR hS rfl hd
  generalize MQ below (gQ G (some (.int out.1)) K (ov I [(1105, o, out.2.1), (1106, o, out.2.2.1), (1107, o, out.2.2.2.1), (1108, o, out.2.2.2.2.1), (1109, o, out.2.2.2.2.2.1), (1110, o, out.2.2.2.2.2.2.1), (1111, o, out.2.2.2.2.2.2.2.1), (1113, o, out.2.2.2.2.2.2.2.2.1), (1123, o, out.2.2.2.2.2.2.2.2.2.1)]) (ov J [(1112, o, out.2.2.2.2.2.2.2.2.2.2.1)]) X (ova A [((o + 1), a_tape), ((o + 3), out.2.2.2.2.2.2.2.2.2.2.2)]) B Q) ([.ref o, .int p1] : List Value).toArray s 0 0 (gA G) = Z at hend ⊢
  generalize ([.ref o, .int p1] : List Value).toArray = args at hts hend ⊢
  unfold f14_readOnce at hf
  refine lv_aload_n hx hb dX14_readOnce_0 rfl (lv_at hl 0 rfl) ?_
  refine n_geti (v := i_had) hx hb hts hown hG hR gFi_X14_255_11 shM.1 (ov_get 8 rfl rfl) dX14_readOnce_1 ?_
  refine lv_iload_n hx hb dX14_readOnce_4 rfl (lv_at hl 1 rfl) ?_
  obtain ⟨rr1, hrr1, hf⟩ := bind_s hf
  refine g0_cS (rm := (0, 0)) (As := [.int i_had, .int p1]) (rest := []) ⟨hx, hb, hml, hown, hts⟩ hG hR hS (m14_has l G K (ov I [(1105, o, i_to), (1106, o, i_from), (1107, o, i_kind), (1108, o, i_number), (1109, o, i_sign), (1110, o, i_fault), (1111, o, i_at), (1113, o, i_told), (1123, o, i_had)]) (ov J [(1112, o, j_word)]) X (ova A [((o + 1), a_tape), ((o + 3), a_read)]) B Q i_had p1 rr1 hrr1) (cwS 2 hts gi_X14_258 rfl rfl rfl hd_X14_has ⟨Nat.le_of_ble_eq_true rfl, Nat.le_of_ble_eq_true rfl⟩) rfl hl.1 (Nat.le_of_ble_eq_true rfl) dX14_readOnce_5 ⟨Nat.le_refl _, Nat.le_refl _⟩ rfl (fun H locs hR hS => ?_)
  refine lv_if_eq (tgt := 17) hx hb dX14_readOnce_8 (by decide) (fun c2 => ?_) (fun c2 => ?_)
  · have hf := ite_t c2 hf
    refine lv_aload_n hx hb dX14_readOnce_17 rfl (lv_at hl 0 rfl) ?_
    refine lv_dup hx hb dX14_readOnce_18 rfl ?_
    refine n_geti (v := i_had) hx hb hts hown hG hR gFi_X14_255_11 shM.1 (ov_get 8 rfl rfl) dX14_readOnce_19 ?_
    refine lv_iconst (v := 1) hx hb dX14_readOnce_22 li_1 ?_
    refine lv_iload_n hx hb dX14_readOnce_23 rfl (lv_at hl 1 rfl) ?_
    obtain ⟨v3, ev3, hf⟩ := lt_some hf
    refine n_ishl hx hb ev3 dX14_readOnce_24 ?_
    obtain ⟨v4, ev4, hf⟩ := lt_some hf
    refine n_ior hx hb ev4 dX14_readOnce_25 ?_
    refine n_puti (li' := [(1105, o, i_to), (1106, o, i_from), (1107, o, i_kind), (1108, o, i_number), (1109, o, i_sign), (1110, o, i_fault), (1111, o, i_at), (1113, o, i_told), (1123, o, v4)]) hx hb hts hown hG hR hS gPi_X14_255_11 shM.1 8 rfl rfl rfl dX14_readOnce_26 (fun H locs hR hS => ?_)
    refine lv_aload_n hx hb dX14_readOnce_29 rfl (lv_at hl 0 rfl) ?_
    obtain ⟨rr5, hrr5, hf⟩ := bind_s hf
    refine g0_cVv (rm := (1, 21)) (As := []) (rest := []) ⟨hx, hb, hml, hown, hts⟩ hG hR hS (m14_go l G K (ov I [(1105, o, i_to), (1106, o, i_from), (1107, o, i_kind), (1108, o, i_number), (1109, o, i_sign), (1110, o, i_fault), (1111, o, i_at), (1113, o, i_told), (1123, o, v4)]) (ov J [(1112, o, j_word)]) X (ova A [((o + 1), a_tape), ((o + 3), a_read)]) B Q o shM i_size i_limit i_to i_from i_kind i_number i_sign j_word a_tape ((congrFun (ov_no rfl) _).trans e_i_size) ((congrFun (ov_no rfl) _).trans e_i_limit) (ov_get 0 rfl rfl) (ov_get 1 rfl rfl) (ov_get 2 rfl rfl) (ov_get 3 rfl rfl) (ov_get 4 rfl rfl) (ov_get 0 rfl rfl) (ova_get 0 hN_A rfl) rr5 hrr5) (cwV 0 hts gi_X14_226 rfl rfl rfl hd_X14_go ⟨Nat.le_of_ble_eq_true rfl, Nat.le_of_ble_eq_true rfl⟩) shM.1 rfl rfl hl.1 (Nat.le_of_ble_eq_true rfl) dX14_readOnce_30 ⟨Nat.le_refl _, Nat.le_refl _⟩ rfl (fun H locs hR hS => ?_)
    have hR : RS G K (ov I [(1105, o, rr5.1), (1106, o, rr5.2.1), (1107, o, rr5.2.2.1), (1108, o, rr5.2.2.2.1), (1109, o, rr5.2.2.2.2.1), (1110, o, i_fault), (1111, o, i_at), (1113, o, i_told), (1123, o, v4)]) (ov J [(1112, o, rr5.2.2.2.2.2)]) X (ova A [((o + 1), a_tape), ((o + 3), a_read)]) B Q H := hR.to (ov_merge (l := [(1105, o, i_to), (1106, o, i_from), (1107, o, i_kind), (1108, o, i_number), (1109, o, i_sign), (1110, o, i_fault), (1111, o, i_at), (1113, o, i_told), (1123, o, v4)]) rfl [0, 1, 2, 3, 4] [(1105, o, rr5.1), (1106, o, rr5.2.1), (1107, o, rr5.2.2.1), (1108, o, rr5.2.2.2.1), (1109, o, rr5.2.2.2.2.1)] rfl rfl) (ov_merge (l := [(1112, o, j_word)]) rfl [0] [(1112, o, rr5.2.2.2.2.2)] rfl rfl) rfl rfl rfl rfl
    refine lv_iload_n hx hb dX14_readOnce_33 rfl (lv_at hl 1 rfl) ?_
    by_cases c6 : p1 = 3
    · have hf := ite_t c6 hf
      refine lv_tableIn (tgt := 72) hx hb dX14_readOnce_34 (by rw [c6]; decide) (by rw [c6]; decide) (off := 38) (by rw [c6]; rfl) (by decide) ?_
      refine lv_aload_n hx hb dX14_readOnce_72 rfl (lv_at hl 0 rfl) ?_
      refine lv_iconst (v := 1) hx hb dX14_readOnce_73 li_1 ?_
      refine lv_bipush (v := 10) hx hb dX14_readOnce_74 lb_10 ?_
      refine lv_bipush (v := 99) hx hb dX14_readOnce_76 lb_99 ?_
      obtain ⟨rr7, hrr7, hf⟩ := bind_s hf
      refine g0_cV (rm := (3, 67)) (As := [.int (1 : Int32), .int (10 : Int32), .int (99 : Int32)]) (rest := []) ⟨hx, hb, hml, hown, hts⟩ hG hR hS (m14_readInto l G K (ov I [(1105, o, rr5.1), (1106, o, rr5.2.1), (1107, o, rr5.2.2.1), (1108, o, rr5.2.2.2.1), (1109, o, rr5.2.2.2.2.1), (1110, o, i_fault), (1111, o, i_at), (1113, o, i_told), (1123, o, v4)]) (ov J [(1112, o, rr5.2.2.2.2.2)]) X (ova A [((o + 1), a_tape), ((o + 3), a_read)]) B Q o shM (1 : Int32) (10 : Int32) (99 : Int32) i_size i_limit rr5.1 rr5.2.1 rr5.2.2.1 rr5.2.2.2.1 rr5.2.2.2.2.1 i_fault i_at i_told rr5.2.2.2.2.2 a_tape a_read ((congrFun (ov_no rfl) _).trans e_i_size) ((congrFun (ov_no rfl) _).trans e_i_limit) (ov_get 0 rfl rfl) (ov_get 1 rfl rfl) (ov_get 2 rfl rfl) (ov_get 3 rfl rfl) (ov_get 4 rfl rfl) (ov_get 5 rfl rfl) (ov_get 6 rfl rfl) (ov_get 7 rfl rfl) (ov_get 0 rfl rfl) (ova_get 0 hN_A rfl) (ova_get 1 hN_A rfl) rr7 hrr7) (cwV 3 hts gi_X14_261 rfl rfl rfl hd_X14_readInto ⟨Nat.le_of_ble_eq_true rfl, Nat.le_of_ble_eq_true rfl⟩) shM.1 rfl rfl hl.1 (Nat.le_of_ble_eq_true rfl) dX14_readOnce_78 ⟨Nat.le_refl _, Nat.le_refl _⟩ rfl (fun H locs hR hS => ?_)
      have hR : RS G K (ov I [(1105, o, rr7.2.1), (1106, o, rr7.2.2.1), (1107, o, rr7.2.2.2.1), (1108, o, rr7.2.2.2.2.1), (1109, o, rr7.2.2.2.2.2.1), (1110, o, rr7.2.2.2.2.2.2.1), (1111, o, rr7.2.2.2.2.2.2.2.1), (1113, o, rr7.2.2.2.2.2.2.2.2.1), (1123, o, v4)]) (ov J [(1112, o, rr7.2.2.2.2.2.2.2.2.2.1)]) X (ova A [((o + 1), a_tape), ((o + 3), rr7.2.2.2.2.2.2.2.2.2.2)]) B Q H := hR.to (ov_merge (l := [(1105, o, rr5.1), (1106, o, rr5.2.1), (1107, o, rr5.2.2.1), (1108, o, rr5.2.2.2.1), (1109, o, rr5.2.2.2.2.1), (1110, o, i_fault), (1111, o, i_at), (1113, o, i_told), (1123, o, v4)]) rfl [0, 1, 2, 3, 4, 5, 6, 7] [(1105, o, rr7.2.1), (1106, o, rr7.2.2.1), (1107, o, rr7.2.2.2.1), (1108, o, rr7.2.2.2.2.1), (1109, o, rr7.2.2.2.2.2.1), (1110, o, rr7.2.2.2.2.2.2.1), (1111, o, rr7.2.2.2.2.2.2.2.1), (1113, o, rr7.2.2.2.2.2.2.2.2.1)] rfl rfl) (ov_merge (l := [(1112, o, rr5.2.2.2.2.2)]) rfl [0] [(1112, o, rr7.2.2.2.2.2.2.2.2.2.1)] rfl rfl) rfl (ova_merge (l := [((o + 1), a_tape), ((o + 3), a_read)]) hN_A [0, 1] [((o + 1), a_tape), ((o + 3), rr7.2.2.2.2.2.2.2.2.2.2)] rfl rfl) rfl rfl
      obtain ⟨hz9, hf⟩ := gd_some hf
      obtain rfl := some_i hf
      exact hend _ _ _ _ dX14_readOnce_81 (congrArg Value.int hz9) hR hS
    have hf := ite_f c6 hf
    by_cases c8 : p1 = 4
    · have hf := ite_t c8 hf
      refine lv_tableIn (tgt := 82) hx hb dX14_readOnce_34 (by rw [c8]; decide) (by rw [c8]; decide) (off := 48) (by rw [c8]; rfl) (by decide) ?_
      refine lv_aload_n hx hb dX14_readOnce_82 rfl (lv_at hl 0 rfl) ?_
      refine lv_iconst (v := 2) hx hb dX14_readOnce_83 li_2 ?_
      refine lv_iconst (v := 1) hx hb dX14_readOnce_84 li_1 ?_
      refine lv_bipush (v := 30) hx hb dX14_readOnce_85 lb_30 ?_
      obtain ⟨rr9, hrr9, hf⟩ := bind_s hf
      refine g0_cV (rm := (3, 67)) (As := [.int (2 : Int32), .int (1 : Int32), .int (30 : Int32)]) (rest := []) ⟨hx, hb, hml, hown, hts⟩ hG hR hS (m14_readInto l G K (ov I [(1105, o, rr5.1), (1106, o, rr5.2.1), (1107, o, rr5.2.2.1), (1108, o, rr5.2.2.2.1), (1109, o, rr5.2.2.2.2.1), (1110, o, i_fault), (1111, o, i_at), (1113, o, i_told), (1123, o, v4)]) (ov J [(1112, o, rr5.2.2.2.2.2)]) X (ova A [((o + 1), a_tape), ((o + 3), a_read)]) B Q o shM (2 : Int32) (1 : Int32) (30 : Int32) i_size i_limit rr5.1 rr5.2.1 rr5.2.2.1 rr5.2.2.2.1 rr5.2.2.2.2.1 i_fault i_at i_told rr5.2.2.2.2.2 a_tape a_read ((congrFun (ov_no rfl) _).trans e_i_size) ((congrFun (ov_no rfl) _).trans e_i_limit) (ov_get 0 rfl rfl) (ov_get 1 rfl rfl) (ov_get 2 rfl rfl) (ov_get 3 rfl rfl) (ov_get 4 rfl rfl) (ov_get 5 rfl rfl) (ov_get 6 rfl rfl) (ov_get 7 rfl rfl) (ov_get 0 rfl rfl) (ova_get 0 hN_A rfl) (ova_get 1 hN_A rfl) rr9 hrr9) (cwV 3 hts gi_X14_261 rfl rfl rfl hd_X14_readInto ⟨Nat.le_of_ble_eq_true rfl, Nat.le_of_ble_eq_true rfl⟩) shM.1 rfl rfl hl.1 (Nat.le_of_ble_eq_true rfl) dX14_readOnce_87 ⟨Nat.le_refl _, Nat.le_refl _⟩ rfl (fun H locs hR hS => ?_)
      have hR : RS G K (ov I [(1105, o, rr9.2.1), (1106, o, rr9.2.2.1), (1107, o, rr9.2.2.2.1), (1108, o, rr9.2.2.2.2.1), (1109, o, rr9.2.2.2.2.2.1), (1110, o, rr9.2.2.2.2.2.2.1), (1111, o, rr9.2.2.2.2.2.2.2.1), (1113, o, rr9.2.2.2.2.2.2.2.2.1), (1123, o, v4)]) (ov J [(1112, o, rr9.2.2.2.2.2.2.2.2.2.1)]) X (ova A [((o + 1), a_tape), ((o + 3), rr9.2.2.2.2.2.2.2.2.2.2)]) B Q H := hR.to (ov_merge (l := [(1105, o, rr5.1), (1106, o, rr5.2.1), (1107, o, rr5.2.2.1), (1108, o, rr5.2.2.2.1), (1109, o, rr5.2.2.2.2.1), (1110, o, i_fault), (1111, o, i_at), (1113, o, i_told), (1123, o, v4)]) rfl [0, 1, 2, 3, 4, 5, 6, 7] [(1105, o, rr9.2.1), (1106, o, rr9.2.2.1), (1107, o, rr9.2.2.2.1), (1108, o, rr9.2.2.2.2.1), (1109, o, rr9.2.2.2.2.2.1), (1110, o, rr9.2.2.2.2.2.2.1), (1111, o, rr9.2.2.2.2.2.2.2.1), (1113, o, rr9.2.2.2.2.2.2.2.2.1)] rfl rfl) (ov_merge (l := [(1112, o, rr5.2.2.2.2.2)]) rfl [0] [(1112, o, rr9.2.2.2.2.2.2.2.2.2.1)] rfl rfl) rfl (ova_merge (l := [((o + 1), a_tape), ((o + 3), a_read)]) hN_A [0, 1] [((o + 1), a_tape), ((o + 3), rr9.2.2.2.2.2.2.2.2.2.2)] rfl rfl) rfl rfl
      have hj108 : ∀ (j108_i_to : Int32) (j108_i_from : Int32) (j108_i_kind : Int32) (j108_i_number : Int32) (j108_i_sign : Int32) (j108_i_fault : Int32) (j108_i_at : Int32) (j108_i_told : Int32) (j108_j_word : Int64) (j108_a_read : Nat → Int32), f14_readOnce_j108 v4 j108_i_to j108_i_from j108_i_kind j108_i_number j108_i_sign j108_i_fault j108_i_at j108_i_told j108_j_word j108_a_read = some out → ∀ (H : Heap) (locs : List Loc) (ls : Array Slot), RS G K (ov I [(1105, o, j108_i_to), (1106, o, j108_i_from), (1107, o, j108_i_kind), (1108, o, j108_i_number), (1109, o, j108_i_sign), (1110, o, j108_i_fault), (1111, o, j108_i_at), (1113, o, j108_i_told), (1123, o, v4)]) (ov J [(1112, o, j108_j_word)]) X (ova A [((o + 1), a_tape), ((o + 3), j108_a_read)]) B Q H → va_S (gA G) s.heap H locs → lv_has ls 3 [(0, .ref o)] → W p l e ({ frames := 4, cells := 0, slots := 0, locals := 90 } : Room) s m args below meth c H locs 0 0 Z (F0 m 108 ls []) := by
        intro j108_i_to j108_i_from j108_i_kind j108_i_number j108_i_sign j108_i_fault j108_i_at j108_i_told j108_j_word j108_a_read hf H locs ls hR hS hl
        unfold f14_readOnce_j108 at hf
        refine lv_iconst (v := 0) hx hb dX14_readOnce_108 li_0 ?_
        obtain rfl := some_i hf
        exact hend _ _ _ _ dX14_readOnce_109 nz_0 hR hS
      refine lv_if_eq (tgt := 108) hx hb dX14_readOnce_90 (by decide) (fun c10 => ?_) (fun c10 => ?_)
      · have hf := ite_t c10 hf
        exact hj108 rr9.2.1 rr9.2.2.1 rr9.2.2.2.1 rr9.2.2.2.2.1 rr9.2.2.2.2.2.1 rr9.2.2.2.2.2.2.1 rr9.2.2.2.2.2.2.2.1 rr9.2.2.2.2.2.2.2.2.1 rr9.2.2.2.2.2.2.2.2.2.1 rr9.2.2.2.2.2.2.2.2.2.2 hf _ _ _ hR hS (lv_sub hl [0] rfl)
      · have hf := ite_f c10 hf
        refine lv_aload_n hx hb dX14_readOnce_93 rfl (lv_at hl 0 rfl) ?_
        refine lv_iconst (v := 3) hx hb dX14_readOnce_94 li_3 ?_
        refine lv_iconst (v := 1) hx hb dX14_readOnce_95 li_1 ?_
        refine lv_bipush (v := 20) hx hb dX14_readOnce_96 lb_20 ?_
        obtain ⟨rr11, hrr11, hf⟩ := bind_s hf
        refine g0_cV (rm := (3, 67)) (As := [.int (3 : Int32), .int (1 : Int32), .int (20 : Int32)]) (rest := []) ⟨hx, hb, hml, hown, hts⟩ hG hR hS (m14_readInto l G K (ov I [(1105, o, rr9.2.1), (1106, o, rr9.2.2.1), (1107, o, rr9.2.2.2.1), (1108, o, rr9.2.2.2.2.1), (1109, o, rr9.2.2.2.2.2.1), (1110, o, rr9.2.2.2.2.2.2.1), (1111, o, rr9.2.2.2.2.2.2.2.1), (1113, o, rr9.2.2.2.2.2.2.2.2.1), (1123, o, v4)]) (ov J [(1112, o, rr9.2.2.2.2.2.2.2.2.2.1)]) X (ova A [((o + 1), a_tape), ((o + 3), rr9.2.2.2.2.2.2.2.2.2.2)]) B Q o shM (3 : Int32) (1 : Int32) (20 : Int32) i_size i_limit rr9.2.1 rr9.2.2.1 rr9.2.2.2.1 rr9.2.2.2.2.1 rr9.2.2.2.2.2.1 rr9.2.2.2.2.2.2.1 rr9.2.2.2.2.2.2.2.1 rr9.2.2.2.2.2.2.2.2.1 rr9.2.2.2.2.2.2.2.2.2.1 a_tape rr9.2.2.2.2.2.2.2.2.2.2 ((congrFun (ov_no rfl) _).trans e_i_size) ((congrFun (ov_no rfl) _).trans e_i_limit) (ov_get 0 rfl rfl) (ov_get 1 rfl rfl) (ov_get 2 rfl rfl) (ov_get 3 rfl rfl) (ov_get 4 rfl rfl) (ov_get 5 rfl rfl) (ov_get 6 rfl rfl) (ov_get 7 rfl rfl) (ov_get 0 rfl rfl) (ova_get 0 hN_A rfl) (ova_get 1 hN_A rfl) rr11 hrr11) (cwV 3 hts gi_X14_261 rfl rfl rfl hd_X14_readInto ⟨Nat.le_of_ble_eq_true rfl, Nat.le_of_ble_eq_true rfl⟩) shM.1 rfl rfl hl.1 (Nat.le_of_ble_eq_true rfl) dX14_readOnce_98 ⟨Nat.le_refl _, Nat.le_refl _⟩ rfl (fun H locs hR hS => ?_)
        have hR : RS G K (ov I [(1105, o, rr11.2.1), (1106, o, rr11.2.2.1), (1107, o, rr11.2.2.2.1), (1108, o, rr11.2.2.2.2.1), (1109, o, rr11.2.2.2.2.2.1), (1110, o, rr11.2.2.2.2.2.2.1), (1111, o, rr11.2.2.2.2.2.2.2.1), (1113, o, rr11.2.2.2.2.2.2.2.2.1), (1123, o, v4)]) (ov J [(1112, o, rr11.2.2.2.2.2.2.2.2.2.1)]) X (ova A [((o + 1), a_tape), ((o + 3), rr11.2.2.2.2.2.2.2.2.2.2)]) B Q H := hR.to (ov_merge (l := [(1105, o, rr9.2.1), (1106, o, rr9.2.2.1), (1107, o, rr9.2.2.2.1), (1108, o, rr9.2.2.2.2.1), (1109, o, rr9.2.2.2.2.2.1), (1110, o, rr9.2.2.2.2.2.2.1), (1111, o, rr9.2.2.2.2.2.2.2.1), (1113, o, rr9.2.2.2.2.2.2.2.2.1), (1123, o, v4)]) rfl [0, 1, 2, 3, 4, 5, 6, 7] [(1105, o, rr11.2.1), (1106, o, rr11.2.2.1), (1107, o, rr11.2.2.2.1), (1108, o, rr11.2.2.2.2.1), (1109, o, rr11.2.2.2.2.2.1), (1110, o, rr11.2.2.2.2.2.2.1), (1111, o, rr11.2.2.2.2.2.2.2.1), (1113, o, rr11.2.2.2.2.2.2.2.2.1)] rfl rfl) (ov_merge (l := [(1112, o, rr9.2.2.2.2.2.2.2.2.2.1)]) rfl [0] [(1112, o, rr11.2.2.2.2.2.2.2.2.2.1)] rfl rfl) rfl (ova_merge (l := [((o + 1), a_tape), ((o + 3), rr9.2.2.2.2.2.2.2.2.2.2)]) hN_A [0, 1] [((o + 1), a_tape), ((o + 3), rr11.2.2.2.2.2.2.2.2.2.2)] rfl rfl) rfl rfl
        refine lv_if_eq (tgt := 108) hx hb dX14_readOnce_101 (by decide) (fun c12 => ?_) (fun c12 => ?_)
        · have hf := ite_t c12 hf
          exact hj108 rr11.2.1 rr11.2.2.1 rr11.2.2.2.1 rr11.2.2.2.2.1 rr11.2.2.2.2.2.1 rr11.2.2.2.2.2.2.1 rr11.2.2.2.2.2.2.2.1 rr11.2.2.2.2.2.2.2.2.1 rr11.2.2.2.2.2.2.2.2.2.1 rr11.2.2.2.2.2.2.2.2.2.2 hf _ _ _ hR hS (lv_sub hl [0] rfl)
        · have hf := ite_f c12 hf
          refine lv_iconst (v := 1) hx hb dX14_readOnce_104 li_1 ?_
          refine lv_goto (tgt := 109) hx hb dX14_readOnce_105 (by decide) ?_
          obtain rfl := some_i hf
          exact hend _ _ _ _ dX14_readOnce_109 nz_1 hR hS
    have hf := ite_f c8 hf
    by_cases c13 : p1 = 5
    · have hf := ite_t c13 hf
      refine lv_tableIn (tgt := 110) hx hb dX14_readOnce_34 (by rw [c13]; decide) (by rw [c13]; decide) (off := 76) (by rw [c13]; rfl) (by decide) ?_
      refine lv_aload_n hx hb dX14_readOnce_110 rfl (lv_at hl 0 rfl) ?_
      refine lv_iconst (v := 4) hx hb dX14_readOnce_111 li_4 ?_
      refine lv_iconst (v := 1) hx hb dX14_readOnce_112 li_1 ?_
      refine lv_bipush (v := 30) hx hb dX14_readOnce_113 lb_30 ?_
      obtain ⟨rr14, hrr14, hf⟩ := bind_s hf
      refine g0_cV (rm := (3, 67)) (As := [.int (4 : Int32), .int (1 : Int32), .int (30 : Int32)]) (rest := []) ⟨hx, hb, hml, hown, hts⟩ hG hR hS (m14_readInto l G K (ov I [(1105, o, rr5.1), (1106, o, rr5.2.1), (1107, o, rr5.2.2.1), (1108, o, rr5.2.2.2.1), (1109, o, rr5.2.2.2.2.1), (1110, o, i_fault), (1111, o, i_at), (1113, o, i_told), (1123, o, v4)]) (ov J [(1112, o, rr5.2.2.2.2.2)]) X (ova A [((o + 1), a_tape), ((o + 3), a_read)]) B Q o shM (4 : Int32) (1 : Int32) (30 : Int32) i_size i_limit rr5.1 rr5.2.1 rr5.2.2.1 rr5.2.2.2.1 rr5.2.2.2.2.1 i_fault i_at i_told rr5.2.2.2.2.2 a_tape a_read ((congrFun (ov_no rfl) _).trans e_i_size) ((congrFun (ov_no rfl) _).trans e_i_limit) (ov_get 0 rfl rfl) (ov_get 1 rfl rfl) (ov_get 2 rfl rfl) (ov_get 3 rfl rfl) (ov_get 4 rfl rfl) (ov_get 5 rfl rfl) (ov_get 6 rfl rfl) (ov_get 7 rfl rfl) (ov_get 0 rfl rfl) (ova_get 0 hN_A rfl) (ova_get 1 hN_A rfl) rr14 hrr14) (cwV 3 hts gi_X14_261 rfl rfl rfl hd_X14_readInto ⟨Nat.le_of_ble_eq_true rfl, Nat.le_of_ble_eq_true rfl⟩) shM.1 rfl rfl hl.1 (Nat.le_of_ble_eq_true rfl) dX14_readOnce_115 ⟨Nat.le_refl _, Nat.le_refl _⟩ rfl (fun H locs hR hS => ?_)
      have hR : RS G K (ov I [(1105, o, rr14.2.1), (1106, o, rr14.2.2.1), (1107, o, rr14.2.2.2.1), (1108, o, rr14.2.2.2.2.1), (1109, o, rr14.2.2.2.2.2.1), (1110, o, rr14.2.2.2.2.2.2.1), (1111, o, rr14.2.2.2.2.2.2.2.1), (1113, o, rr14.2.2.2.2.2.2.2.2.1), (1123, o, v4)]) (ov J [(1112, o, rr14.2.2.2.2.2.2.2.2.2.1)]) X (ova A [((o + 1), a_tape), ((o + 3), rr14.2.2.2.2.2.2.2.2.2.2)]) B Q H := hR.to (ov_merge (l := [(1105, o, rr5.1), (1106, o, rr5.2.1), (1107, o, rr5.2.2.1), (1108, o, rr5.2.2.2.1), (1109, o, rr5.2.2.2.2.1), (1110, o, i_fault), (1111, o, i_at), (1113, o, i_told), (1123, o, v4)]) rfl [0, 1, 2, 3, 4, 5, 6, 7] [(1105, o, rr14.2.1), (1106, o, rr14.2.2.1), (1107, o, rr14.2.2.2.1), (1108, o, rr14.2.2.2.2.1), (1109, o, rr14.2.2.2.2.2.1), (1110, o, rr14.2.2.2.2.2.2.1), (1111, o, rr14.2.2.2.2.2.2.2.1), (1113, o, rr14.2.2.2.2.2.2.2.2.1)] rfl rfl) (ov_merge (l := [(1112, o, rr5.2.2.2.2.2)]) rfl [0] [(1112, o, rr14.2.2.2.2.2.2.2.2.2.1)] rfl rfl) rfl (ova_merge (l := [((o + 1), a_tape), ((o + 3), a_read)]) hN_A [0, 1] [((o + 1), a_tape), ((o + 3), rr14.2.2.2.2.2.2.2.2.2.2)] rfl rfl) rfl rfl
      have hj137 : ∀ (j137_i_to : Int32) (j137_i_from : Int32) (j137_i_kind : Int32) (j137_i_number : Int32) (j137_i_sign : Int32) (j137_i_fault : Int32) (j137_i_at : Int32) (j137_i_told : Int32) (j137_j_word : Int64) (j137_a_read : Nat → Int32), f14_readOnce_j137 v4 j137_i_to j137_i_from j137_i_kind j137_i_number j137_i_sign j137_i_fault j137_i_at j137_i_told j137_j_word j137_a_read = some out → ∀ (H : Heap) (locs : List Loc) (ls : Array Slot), RS G K (ov I [(1105, o, j137_i_to), (1106, o, j137_i_from), (1107, o, j137_i_kind), (1108, o, j137_i_number), (1109, o, j137_i_sign), (1110, o, j137_i_fault), (1111, o, j137_i_at), (1113, o, j137_i_told), (1123, o, v4)]) (ov J [(1112, o, j137_j_word)]) X (ova A [((o + 1), a_tape), ((o + 3), j137_a_read)]) B Q H → va_S (gA G) s.heap H locs → lv_has ls 3 [(0, .ref o)] → W p l e ({ frames := 4, cells := 0, slots := 0, locals := 90 } : Room) s m args below meth c H locs 0 0 Z (F0 m 137 ls []) := by
        intro j137_i_to j137_i_from j137_i_kind j137_i_number j137_i_sign j137_i_fault j137_i_at j137_i_told j137_j_word j137_a_read hf H locs ls hR hS hl
        unfold f14_readOnce_j137 at hf
        refine lv_iconst (v := 0) hx hb dX14_readOnce_137 li_0 ?_
        obtain rfl := some_i hf
        exact hend _ _ _ _ dX14_readOnce_138 nz_0 hR hS
      refine lv_if_eq (tgt := 137) hx hb dX14_readOnce_118 (by decide) (fun c15 => ?_) (fun c15 => ?_)
      · have hf := ite_t c15 hf
        exact hj137 rr14.2.1 rr14.2.2.1 rr14.2.2.2.1 rr14.2.2.2.2.1 rr14.2.2.2.2.2.1 rr14.2.2.2.2.2.2.1 rr14.2.2.2.2.2.2.2.1 rr14.2.2.2.2.2.2.2.2.1 rr14.2.2.2.2.2.2.2.2.2.1 rr14.2.2.2.2.2.2.2.2.2.2 hf _ _ _ hR hS (lv_sub hl [0] rfl)
      · have hf := ite_f c15 hf
        refine lv_aload_n hx hb dX14_readOnce_121 rfl (lv_at hl 0 rfl) ?_
        refine lv_iconst (v := 5) hx hb dX14_readOnce_122 li_5 ?_
        refine lv_iconst (v := 0) hx hb dX14_readOnce_123 li_0 ?_
        refine lv_sipush (v := 9999) hx hb dX14_readOnce_124 ls_9999 ?_
        obtain ⟨rr16, hrr16, hf⟩ := bind_s hf
        refine g0_cV (rm := (3, 67)) (As := [.int (5 : Int32), .int (0 : Int32), .int (9999 : Int32)]) (rest := []) ⟨hx, hb, hml, hown, hts⟩ hG hR hS (m14_readInto l G K (ov I [(1105, o, rr14.2.1), (1106, o, rr14.2.2.1), (1107, o, rr14.2.2.2.1), (1108, o, rr14.2.2.2.2.1), (1109, o, rr14.2.2.2.2.2.1), (1110, o, rr14.2.2.2.2.2.2.1), (1111, o, rr14.2.2.2.2.2.2.2.1), (1113, o, rr14.2.2.2.2.2.2.2.2.1), (1123, o, v4)]) (ov J [(1112, o, rr14.2.2.2.2.2.2.2.2.2.1)]) X (ova A [((o + 1), a_tape), ((o + 3), rr14.2.2.2.2.2.2.2.2.2.2)]) B Q o shM (5 : Int32) (0 : Int32) (9999 : Int32) i_size i_limit rr14.2.1 rr14.2.2.1 rr14.2.2.2.1 rr14.2.2.2.2.1 rr14.2.2.2.2.2.1 rr14.2.2.2.2.2.2.1 rr14.2.2.2.2.2.2.2.1 rr14.2.2.2.2.2.2.2.2.1 rr14.2.2.2.2.2.2.2.2.2.1 a_tape rr14.2.2.2.2.2.2.2.2.2.2 ((congrFun (ov_no rfl) _).trans e_i_size) ((congrFun (ov_no rfl) _).trans e_i_limit) (ov_get 0 rfl rfl) (ov_get 1 rfl rfl) (ov_get 2 rfl rfl) (ov_get 3 rfl rfl) (ov_get 4 rfl rfl) (ov_get 5 rfl rfl) (ov_get 6 rfl rfl) (ov_get 7 rfl rfl) (ov_get 0 rfl rfl) (ova_get 0 hN_A rfl) (ova_get 1 hN_A rfl) rr16 hrr16) (cwV 3 hts gi_X14_261 rfl rfl rfl hd_X14_readInto ⟨Nat.le_of_ble_eq_true rfl, Nat.le_of_ble_eq_true rfl⟩) shM.1 rfl rfl hl.1 (Nat.le_of_ble_eq_true rfl) dX14_readOnce_127 ⟨Nat.le_refl _, Nat.le_refl _⟩ rfl (fun H locs hR hS => ?_)
        have hR : RS G K (ov I [(1105, o, rr16.2.1), (1106, o, rr16.2.2.1), (1107, o, rr16.2.2.2.1), (1108, o, rr16.2.2.2.2.1), (1109, o, rr16.2.2.2.2.2.1), (1110, o, rr16.2.2.2.2.2.2.1), (1111, o, rr16.2.2.2.2.2.2.2.1), (1113, o, rr16.2.2.2.2.2.2.2.2.1), (1123, o, v4)]) (ov J [(1112, o, rr16.2.2.2.2.2.2.2.2.2.1)]) X (ova A [((o + 1), a_tape), ((o + 3), rr16.2.2.2.2.2.2.2.2.2.2)]) B Q H := hR.to (ov_merge (l := [(1105, o, rr14.2.1), (1106, o, rr14.2.2.1), (1107, o, rr14.2.2.2.1), (1108, o, rr14.2.2.2.2.1), (1109, o, rr14.2.2.2.2.2.1), (1110, o, rr14.2.2.2.2.2.2.1), (1111, o, rr14.2.2.2.2.2.2.2.1), (1113, o, rr14.2.2.2.2.2.2.2.2.1), (1123, o, v4)]) rfl [0, 1, 2, 3, 4, 5, 6, 7] [(1105, o, rr16.2.1), (1106, o, rr16.2.2.1), (1107, o, rr16.2.2.2.1), (1108, o, rr16.2.2.2.2.1), (1109, o, rr16.2.2.2.2.2.1), (1110, o, rr16.2.2.2.2.2.2.1), (1111, o, rr16.2.2.2.2.2.2.2.1), (1113, o, rr16.2.2.2.2.2.2.2.2.1)] rfl rfl) (ov_merge (l := [(1112, o, rr14.2.2.2.2.2.2.2.2.2.1)]) rfl [0] [(1112, o, rr16.2.2.2.2.2.2.2.2.2.1)] rfl rfl) rfl (ova_merge (l := [((o + 1), a_tape), ((o + 3), rr14.2.2.2.2.2.2.2.2.2.2)]) hN_A [0, 1] [((o + 1), a_tape), ((o + 3), rr16.2.2.2.2.2.2.2.2.2.2)] rfl rfl) rfl rfl
        refine lv_if_eq (tgt := 137) hx hb dX14_readOnce_130 (by decide) (fun c17 => ?_) (fun c17 => ?_)
        · have hf := ite_t c17 hf
          exact hj137 rr16.2.1 rr16.2.2.1 rr16.2.2.2.1 rr16.2.2.2.2.1 rr16.2.2.2.2.2.1 rr16.2.2.2.2.2.2.1 rr16.2.2.2.2.2.2.2.1 rr16.2.2.2.2.2.2.2.2.1 rr16.2.2.2.2.2.2.2.2.2.1 rr16.2.2.2.2.2.2.2.2.2.2 hf _ _ _ hR hS (lv_sub hl [0] rfl)
        · have hf := ite_f c17 hf
          refine lv_iconst (v := 1) hx hb dX14_readOnce_133 li_1 ?_
          refine lv_goto (tgt := 138) hx hb dX14_readOnce_134 (by decide) ?_
          obtain rfl := some_i hf
          exact hend _ _ _ _ dX14_readOnce_138 nz_1 hR hS
    have hf := ite_f c13 hf
    by_cases c18 : p1 = 6
    · have hf := ite_t c18 hf
      refine lv_tableIn (tgt := 139) hx hb dX14_readOnce_34 (by rw [c18]; decide) (by rw [c18]; decide) (off := 105) (by rw [c18]; rfl) (by decide) ?_
      refine lv_aload_n hx hb dX14_readOnce_139 rfl (lv_at hl 0 rfl) ?_
      refine lv_bipush (v := 6) hx hb dX14_readOnce_140 lb_6 ?_
      refine lv_iconst (v := 0) hx hb dX14_readOnce_142 li_0 ?_
      refine lv_bipush (v := 99) hx hb dX14_readOnce_143 lb_99 ?_
      obtain ⟨rr19, hrr19, hf⟩ := bind_s hf
      refine g0_cV (rm := (3, 67)) (As := [.int (6 : Int32), .int (0 : Int32), .int (99 : Int32)]) (rest := []) ⟨hx, hb, hml, hown, hts⟩ hG hR hS (m14_readInto l G K (ov I [(1105, o, rr5.1), (1106, o, rr5.2.1), (1107, o, rr5.2.2.1), (1108, o, rr5.2.2.2.1), (1109, o, rr5.2.2.2.2.1), (1110, o, i_fault), (1111, o, i_at), (1113, o, i_told), (1123, o, v4)]) (ov J [(1112, o, rr5.2.2.2.2.2)]) X (ova A [((o + 1), a_tape), ((o + 3), a_read)]) B Q o shM (6 : Int32) (0 : Int32) (99 : Int32) i_size i_limit rr5.1 rr5.2.1 rr5.2.2.1 rr5.2.2.2.1 rr5.2.2.2.2.1 i_fault i_at i_told rr5.2.2.2.2.2 a_tape a_read ((congrFun (ov_no rfl) _).trans e_i_size) ((congrFun (ov_no rfl) _).trans e_i_limit) (ov_get 0 rfl rfl) (ov_get 1 rfl rfl) (ov_get 2 rfl rfl) (ov_get 3 rfl rfl) (ov_get 4 rfl rfl) (ov_get 5 rfl rfl) (ov_get 6 rfl rfl) (ov_get 7 rfl rfl) (ov_get 0 rfl rfl) (ova_get 0 hN_A rfl) (ova_get 1 hN_A rfl) rr19 hrr19) (cwV 3 hts gi_X14_261 rfl rfl rfl hd_X14_readInto ⟨Nat.le_of_ble_eq_true rfl, Nat.le_of_ble_eq_true rfl⟩) shM.1 rfl rfl hl.1 (Nat.le_of_ble_eq_true rfl) dX14_readOnce_145 ⟨Nat.le_refl _, Nat.le_refl _⟩ rfl (fun H locs hR hS => ?_)
      have hR : RS G K (ov I [(1105, o, rr19.2.1), (1106, o, rr19.2.2.1), (1107, o, rr19.2.2.2.1), (1108, o, rr19.2.2.2.2.1), (1109, o, rr19.2.2.2.2.2.1), (1110, o, rr19.2.2.2.2.2.2.1), (1111, o, rr19.2.2.2.2.2.2.2.1), (1113, o, rr19.2.2.2.2.2.2.2.2.1), (1123, o, v4)]) (ov J [(1112, o, rr19.2.2.2.2.2.2.2.2.2.1)]) X (ova A [((o + 1), a_tape), ((o + 3), rr19.2.2.2.2.2.2.2.2.2.2)]) B Q H := hR.to (ov_merge (l := [(1105, o, rr5.1), (1106, o, rr5.2.1), (1107, o, rr5.2.2.1), (1108, o, rr5.2.2.2.1), (1109, o, rr5.2.2.2.2.1), (1110, o, i_fault), (1111, o, i_at), (1113, o, i_told), (1123, o, v4)]) rfl [0, 1, 2, 3, 4, 5, 6, 7] [(1105, o, rr19.2.1), (1106, o, rr19.2.2.1), (1107, o, rr19.2.2.2.1), (1108, o, rr19.2.2.2.2.1), (1109, o, rr19.2.2.2.2.2.1), (1110, o, rr19.2.2.2.2.2.2.1), (1111, o, rr19.2.2.2.2.2.2.2.1), (1113, o, rr19.2.2.2.2.2.2.2.2.1)] rfl rfl) (ov_merge (l := [(1112, o, rr5.2.2.2.2.2)]) rfl [0] [(1112, o, rr19.2.2.2.2.2.2.2.2.2.1)] rfl rfl) rfl (ova_merge (l := [((o + 1), a_tape), ((o + 3), a_read)]) hN_A [0, 1] [((o + 1), a_tape), ((o + 3), rr19.2.2.2.2.2.2.2.2.2.2)] rfl rfl) rfl rfl
      obtain ⟨hz9, hf⟩ := gd_some hf
      obtain rfl := some_i hf
      exact hend _ _ _ _ dX14_readOnce_148 (congrArg Value.int hz9) hR hS
    have hf := ite_f c18 hf
    by_cases c20 : p1 = 7
    · have hf := ite_t c20 hf
      refine lv_tableIn (tgt := 149) hx hb dX14_readOnce_34 (by rw [c20]; decide) (by rw [c20]; decide) (off := 115) (by rw [c20]; rfl) (by decide) ?_
      refine lv_aload_n hx hb dX14_readOnce_149 rfl (lv_at hl 0 rfl) ?_
      refine lv_bipush (v := 7) hx hb dX14_readOnce_150 lb_7 ?_
      refine lv_iconst (v := 1) hx hb dX14_readOnce_152 li_1 ?_
      refine lv_bipush (v := 99) hx hb dX14_readOnce_153 lb_99 ?_
      obtain ⟨rr21, hrr21, hf⟩ := bind_s hf
      refine g0_cV (rm := (3, 67)) (As := [.int (7 : Int32), .int (1 : Int32), .int (99 : Int32)]) (rest := []) ⟨hx, hb, hml, hown, hts⟩ hG hR hS (m14_readInto l G K (ov I [(1105, o, rr5.1), (1106, o, rr5.2.1), (1107, o, rr5.2.2.1), (1108, o, rr5.2.2.2.1), (1109, o, rr5.2.2.2.2.1), (1110, o, i_fault), (1111, o, i_at), (1113, o, i_told), (1123, o, v4)]) (ov J [(1112, o, rr5.2.2.2.2.2)]) X (ova A [((o + 1), a_tape), ((o + 3), a_read)]) B Q o shM (7 : Int32) (1 : Int32) (99 : Int32) i_size i_limit rr5.1 rr5.2.1 rr5.2.2.1 rr5.2.2.2.1 rr5.2.2.2.2.1 i_fault i_at i_told rr5.2.2.2.2.2 a_tape a_read ((congrFun (ov_no rfl) _).trans e_i_size) ((congrFun (ov_no rfl) _).trans e_i_limit) (ov_get 0 rfl rfl) (ov_get 1 rfl rfl) (ov_get 2 rfl rfl) (ov_get 3 rfl rfl) (ov_get 4 rfl rfl) (ov_get 5 rfl rfl) (ov_get 6 rfl rfl) (ov_get 7 rfl rfl) (ov_get 0 rfl rfl) (ova_get 0 hN_A rfl) (ova_get 1 hN_A rfl) rr21 hrr21) (cwV 3 hts gi_X14_261 rfl rfl rfl hd_X14_readInto ⟨Nat.le_of_ble_eq_true rfl, Nat.le_of_ble_eq_true rfl⟩) shM.1 rfl rfl hl.1 (Nat.le_of_ble_eq_true rfl) dX14_readOnce_155 ⟨Nat.le_refl _, Nat.le_refl _⟩ rfl (fun H locs hR hS => ?_)
      have hR : RS G K (ov I [(1105, o, rr21.2.1), (1106, o, rr21.2.2.1), (1107, o, rr21.2.2.2.1), (1108, o, rr21.2.2.2.2.1), (1109, o, rr21.2.2.2.2.2.1), (1110, o, rr21.2.2.2.2.2.2.1), (1111, o, rr21.2.2.2.2.2.2.2.1), (1113, o, rr21.2.2.2.2.2.2.2.2.1), (1123, o, v4)]) (ov J [(1112, o, rr21.2.2.2.2.2.2.2.2.2.1)]) X (ova A [((o + 1), a_tape), ((o + 3), rr21.2.2.2.2.2.2.2.2.2.2)]) B Q H := hR.to (ov_merge (l := [(1105, o, rr5.1), (1106, o, rr5.2.1), (1107, o, rr5.2.2.1), (1108, o, rr5.2.2.2.1), (1109, o, rr5.2.2.2.2.1), (1110, o, i_fault), (1111, o, i_at), (1113, o, i_told), (1123, o, v4)]) rfl [0, 1, 2, 3, 4, 5, 6, 7] [(1105, o, rr21.2.1), (1106, o, rr21.2.2.1), (1107, o, rr21.2.2.2.1), (1108, o, rr21.2.2.2.2.1), (1109, o, rr21.2.2.2.2.2.1), (1110, o, rr21.2.2.2.2.2.2.1), (1111, o, rr21.2.2.2.2.2.2.2.1), (1113, o, rr21.2.2.2.2.2.2.2.2.1)] rfl rfl) (ov_merge (l := [(1112, o, rr5.2.2.2.2.2)]) rfl [0] [(1112, o, rr21.2.2.2.2.2.2.2.2.2.1)] rfl rfl) rfl (ova_merge (l := [((o + 1), a_tape), ((o + 3), a_read)]) hN_A [0, 1] [((o + 1), a_tape), ((o + 3), rr21.2.2.2.2.2.2.2.2.2.2)] rfl rfl) rfl rfl
      obtain ⟨hz9, hf⟩ := gd_some hf
      obtain rfl := some_i hf
      exact hend _ _ _ _ dX14_readOnce_158 (congrArg Value.int hz9) hR hS
    have hf := ite_f c20 hf
    by_cases c22 : p1 = 8
    · have hf := ite_t c22 hf
      refine lv_tableIn (tgt := 159) hx hb dX14_readOnce_34 (by rw [c22]; decide) (by rw [c22]; decide) (off := 125) (by rw [c22]; rfl) (by decide) ?_
      refine lv_aload_n hx hb dX14_readOnce_159 rfl (lv_at hl 0 rfl) ?_
      refine lv_bipush (v := 8) hx hb dX14_readOnce_160 lb_8 ?_
      refine lv_iconst (v := 1) hx hb dX14_readOnce_162 li_1 ?_
      refine lv_bipush (v := 9) hx hb dX14_readOnce_163 lb_9 ?_
      obtain ⟨rr23, hrr23, hf⟩ := bind_s hf
      refine g0_cV (rm := (3, 67)) (As := [.int (8 : Int32), .int (1 : Int32), .int (9 : Int32)]) (rest := []) ⟨hx, hb, hml, hown, hts⟩ hG hR hS (m14_readInto l G K (ov I [(1105, o, rr5.1), (1106, o, rr5.2.1), (1107, o, rr5.2.2.1), (1108, o, rr5.2.2.2.1), (1109, o, rr5.2.2.2.2.1), (1110, o, i_fault), (1111, o, i_at), (1113, o, i_told), (1123, o, v4)]) (ov J [(1112, o, rr5.2.2.2.2.2)]) X (ova A [((o + 1), a_tape), ((o + 3), a_read)]) B Q o shM (8 : Int32) (1 : Int32) (9 : Int32) i_size i_limit rr5.1 rr5.2.1 rr5.2.2.1 rr5.2.2.2.1 rr5.2.2.2.2.1 i_fault i_at i_told rr5.2.2.2.2.2 a_tape a_read ((congrFun (ov_no rfl) _).trans e_i_size) ((congrFun (ov_no rfl) _).trans e_i_limit) (ov_get 0 rfl rfl) (ov_get 1 rfl rfl) (ov_get 2 rfl rfl) (ov_get 3 rfl rfl) (ov_get 4 rfl rfl) (ov_get 5 rfl rfl) (ov_get 6 rfl rfl) (ov_get 7 rfl rfl) (ov_get 0 rfl rfl) (ova_get 0 hN_A rfl) (ova_get 1 hN_A rfl) rr23 hrr23) (cwV 3 hts gi_X14_261 rfl rfl rfl hd_X14_readInto ⟨Nat.le_of_ble_eq_true rfl, Nat.le_of_ble_eq_true rfl⟩) shM.1 rfl rfl hl.1 (Nat.le_of_ble_eq_true rfl) dX14_readOnce_165 ⟨Nat.le_refl _, Nat.le_refl _⟩ rfl (fun H locs hR hS => ?_)
      have hR : RS G K (ov I [(1105, o, rr23.2.1), (1106, o, rr23.2.2.1), (1107, o, rr23.2.2.2.1), (1108, o, rr23.2.2.2.2.1), (1109, o, rr23.2.2.2.2.2.1), (1110, o, rr23.2.2.2.2.2.2.1), (1111, o, rr23.2.2.2.2.2.2.2.1), (1113, o, rr23.2.2.2.2.2.2.2.2.1), (1123, o, v4)]) (ov J [(1112, o, rr23.2.2.2.2.2.2.2.2.2.1)]) X (ova A [((o + 1), a_tape), ((o + 3), rr23.2.2.2.2.2.2.2.2.2.2)]) B Q H := hR.to (ov_merge (l := [(1105, o, rr5.1), (1106, o, rr5.2.1), (1107, o, rr5.2.2.1), (1108, o, rr5.2.2.2.1), (1109, o, rr5.2.2.2.2.1), (1110, o, i_fault), (1111, o, i_at), (1113, o, i_told), (1123, o, v4)]) rfl [0, 1, 2, 3, 4, 5, 6, 7] [(1105, o, rr23.2.1), (1106, o, rr23.2.2.1), (1107, o, rr23.2.2.2.1), (1108, o, rr23.2.2.2.2.1), (1109, o, rr23.2.2.2.2.2.1), (1110, o, rr23.2.2.2.2.2.2.1), (1111, o, rr23.2.2.2.2.2.2.2.1), (1113, o, rr23.2.2.2.2.2.2.2.2.1)] rfl rfl) (ov_merge (l := [(1112, o, rr5.2.2.2.2.2)]) rfl [0] [(1112, o, rr23.2.2.2.2.2.2.2.2.2.1)] rfl rfl) rfl (ova_merge (l := [((o + 1), a_tape), ((o + 3), a_read)]) hN_A [0, 1] [((o + 1), a_tape), ((o + 3), rr23.2.2.2.2.2.2.2.2.2.2)] rfl rfl) rfl rfl
      obtain ⟨hz9, hf⟩ := gd_some hf
      obtain rfl := some_i hf
      exact hend _ _ _ _ dX14_readOnce_168 (congrArg Value.int hz9) hR hS
    have hf := ite_f c22 hf
    have hto := tb_out_3_8 p1 c6 c8 c13 c18 c20 c22
    refine lv_tableOut (tgt := 169) hx hb dX14_readOnce_34 hto (by decide) ?_
    refine lv_iconst (v := 0) hx hb dX14_readOnce_169 li_0 ?_
    refine lv_istore_n (lv' := [(2, .int (0 : Int32)), (0, .ref o), (1, .int p1)]) hx hb dX14_readOnce_170 rfl hl (by decide) rfl (fun ls hl => ?_)
    obtain ⟨rl24, hw24, hfo24⟩ := bind_s hf
    have hx24_0 : ∀ (x24_0 : Int32), f14_readOnce_e24_0 i_size i_limit i_fault i_at i_told a_tape a_read v4 rr5 x24_0 = some out → ∀ (H : Heap) (locs : List Loc) (ls : Array Slot), RS G K (ov I [(1105, o, rr5.1), (1106, o, rr5.2.1), (1107, o, rr5.2.2.1), (1108, o, rr5.2.2.2.1), (1109, o, rr5.2.2.2.2.1), (1110, o, i_fault), (1111, o, i_at), (1113, o, i_told), (1123, o, v4)]) (ov J [(1112, o, rr5.2.2.2.2.2)]) X (ova A [((o + 1), a_tape), ((o + 3), a_read)]) B Q H → va_S (gA G) s.heap H locs → lv_has ls 3 [(0, .ref o), (2, .int x24_0)] → W p l e ({ frames := 4, cells := 0, slots := 0, locals := 90 } : Room) s m args below meth c H locs 0 0 Z (F0 m 193 ls []) := by
      intro x24_0 hf H locs ls hR hS hl
      unfold f14_readOnce_e24_0 at hf
      refine lv_iload_n hx hb dX14_readOnce_193 rfl (lv_at hl 1 rfl) ?_
      refine lv_iconst (v := 4) hx hb dX14_readOnce_194 li_4 ?_
      refine lv_icmp_ne (tgt := 204) hx hb dX14_readOnce_195 (by decide) (fun c25 => ?_) (fun c25 => ?_)
      · have hf := ite_f c25 hf
        refine lv_aload_n hx hb dX14_readOnce_204 rfl (lv_at hl 0 rfl) ?_
        refine g_getr (b := (o + 3)) hx hb hts hown hG hR gFx_X14_16_11 shM.1 ((shM.2 2 _ rfl).2) dX14_readOnce_205 ?_
        refine lv_bipush (v := 11) hx hb dX14_readOnce_208 lb_11 ?_
        refine lv_iload_n hx hb dX14_readOnce_210 rfl (lv_at hl 1 rfl) ?_
        obtain ⟨c26, hf⟩ := gd_some hf
        obtain ⟨u27, eu27, hf⟩ := lt_some hf
        refine n_iast (la' := [((o + 1), a_tape), ((o + 3), u27)]) hx hb hG hR hS k_a_read c26 hN_A 1 rfl eu27 rfl dX14_readOnce_211 (fun H locs hR hS => ?_)
        refine lv_aload_n hx hb dX14_readOnce_212 rfl (lv_at hl 0 rfl) ?_
        obtain ⟨rr28, hrr28, hf⟩ := bind_s hf
        refine g0_cVv (rm := (1, 21)) (As := []) (rest := []) ⟨hx, hb, hml, hown, hts⟩ hG hR hS (m14_go l G K (ov I [(1105, o, rr5.1), (1106, o, rr5.2.1), (1107, o, rr5.2.2.1), (1108, o, rr5.2.2.2.1), (1109, o, rr5.2.2.2.2.1), (1110, o, i_fault), (1111, o, i_at), (1113, o, i_told), (1123, o, v4)]) (ov J [(1112, o, rr5.2.2.2.2.2)]) X (ova A [((o + 1), a_tape), ((o + 3), u27)]) B Q o shM i_size i_limit rr5.1 rr5.2.1 rr5.2.2.1 rr5.2.2.2.1 rr5.2.2.2.2.1 rr5.2.2.2.2.2 a_tape ((congrFun (ov_no rfl) _).trans e_i_size) ((congrFun (ov_no rfl) _).trans e_i_limit) (ov_get 0 rfl rfl) (ov_get 1 rfl rfl) (ov_get 2 rfl rfl) (ov_get 3 rfl rfl) (ov_get 4 rfl rfl) (ov_get 0 rfl rfl) (ova_get 0 hN_A rfl) rr28 hrr28) (cwV 0 hts gi_X14_226 rfl rfl rfl hd_X14_go ⟨Nat.le_of_ble_eq_true rfl, Nat.le_of_ble_eq_true rfl⟩) shM.1 rfl rfl hl.1 (Nat.le_of_ble_eq_true rfl) dX14_readOnce_213 ⟨Nat.le_refl _, Nat.le_refl _⟩ rfl (fun H locs hR hS => ?_)
        have hR : RS G K (ov I [(1105, o, rr28.1), (1106, o, rr28.2.1), (1107, o, rr28.2.2.1), (1108, o, rr28.2.2.2.1), (1109, o, rr28.2.2.2.2.1), (1110, o, i_fault), (1111, o, i_at), (1113, o, i_told), (1123, o, v4)]) (ov J [(1112, o, rr28.2.2.2.2.2)]) X (ova A [((o + 1), a_tape), ((o + 3), u27)]) B Q H := hR.to (ov_merge (l := [(1105, o, rr5.1), (1106, o, rr5.2.1), (1107, o, rr5.2.2.1), (1108, o, rr5.2.2.2.1), (1109, o, rr5.2.2.2.2.1), (1110, o, i_fault), (1111, o, i_at), (1113, o, i_told), (1123, o, v4)]) rfl [0, 1, 2, 3, 4] [(1105, o, rr28.1), (1106, o, rr28.2.1), (1107, o, rr28.2.2.1), (1108, o, rr28.2.2.2.1), (1109, o, rr28.2.2.2.2.1)] rfl rfl) (ov_merge (l := [(1112, o, rr5.2.2.2.2.2)]) rfl [0] [(1112, o, rr28.2.2.2.2.2)] rfl rfl) rfl rfl rfl rfl
        refine lv_iconst (v := 1) hx hb dX14_readOnce_216 li_1 ?_
        obtain rfl := some_i hf
        exact hend _ _ _ _ dX14_readOnce_217 nz_1 hR hS
      · have hf := ite_t c25 hf
        refine lv_aload_n hx hb dX14_readOnce_198 rfl (lv_at hl 0 rfl) ?_
        refine lv_iconst (v := 1) hx hb dX14_readOnce_199 li_1 ?_
        obtain ⟨rr29, hrr29, hf⟩ := bind_s hf
        refine g0_cV (rm := (0, 0)) (As := [.int (1 : Int32)]) (rest := []) ⟨hx, hb, hml, hown, hts⟩ hG hR hS (m14_bad l G K (ov I [(1105, o, rr5.1), (1106, o, rr5.2.1), (1107, o, rr5.2.2.1), (1108, o, rr5.2.2.2.1), (1109, o, rr5.2.2.2.2.1), (1110, o, i_fault), (1111, o, i_at), (1113, o, i_told), (1123, o, v4)]) (ov J [(1112, o, rr5.2.2.2.2.2)]) X (ova A [((o + 1), a_tape), ((o + 3), a_read)]) B Q o shM (1 : Int32) rr5.2.1 rr5.2.2.1 i_fault i_at (ov_get 1 rfl rfl) (ov_get 2 rfl rfl) (ov_get 5 rfl rfl) (ov_get 6 rfl rfl) rr29 hrr29) (cwV 1 hts gi_X14_216 rfl rfl rfl hd_X14_bad ⟨Nat.le_of_ble_eq_true rfl, Nat.le_of_ble_eq_true rfl⟩) shM.1 rfl rfl hl.1 (Nat.le_of_ble_eq_true rfl) dX14_readOnce_200 ⟨Nat.le_refl _, Nat.le_refl _⟩ rfl (fun H locs hR hS => ?_)
        have hR : RS G K (ov I [(1105, o, rr5.1), (1106, o, rr5.2.1), (1107, o, rr5.2.2.1), (1108, o, rr5.2.2.2.1), (1109, o, rr5.2.2.2.2.1), (1110, o, rr29.2.1), (1111, o, rr29.2.2), (1113, o, i_told), (1123, o, v4)]) (ov J [(1112, o, rr5.2.2.2.2.2)]) X (ova A [((o + 1), a_tape), ((o + 3), a_read)]) B Q H := hR.to (ov_merge (l := [(1105, o, rr5.1), (1106, o, rr5.2.1), (1107, o, rr5.2.2.1), (1108, o, rr5.2.2.2.1), (1109, o, rr5.2.2.2.2.1), (1110, o, i_fault), (1111, o, i_at), (1113, o, i_told), (1123, o, v4)]) rfl [5, 6] [(1110, o, rr29.2.1), (1111, o, rr29.2.2)] rfl rfl) rfl rfl rfl rfl rfl
        obtain ⟨hz9, hf⟩ := gd_some hf
        obtain rfl := some_i hf
        exact hend _ _ _ _ dX14_readOnce_203 (congrArg Value.int hz9) hR hS
    refine whl_walk (P := fun (s24 : Int32) => ∀ (H : Heap) (locs : List Loc) (ls : Array Slot), RS G K (ov I [(1105, o, rr5.1), (1106, o, rr5.2.1), (1107, o, rr5.2.2.1), (1108, o, rr5.2.2.2.1), (1109, o, rr5.2.2.2.2.1), (1110, o, i_fault), (1111, o, i_at), (1113, o, i_told), (1123, o, v4)]) (ov J [(1112, o, rr5.2.2.2.2.2)]) X (ova A [((o + 1), a_tape), ((o + 3), a_read)]) B Q H → va_S (gA G) s.heap H locs → lv_has ls 3 [(0, .ref o), (2, .int s24)] → W p l e ({ frames := 4, cells := 0, slots := 0, locals := 90 } : Room) s m args below meth c H locs 0 0 Z (F0 m 171 ls [])) (r := rl24) ?_ FU _ hw24 _ _ _ hR hS (lv_sub hl [1, 0] rfl)
    clear hR hS hl hf
    intro s24 o24 hf hk24 H locs ls hR hS hl
    obtain ⟨w24_2, rfl⟩ : ∃ z, z = s24 := ⟨_, rfl⟩
    have hf : f14_readOnce_s24 rr5 w24_2 = some o24 := hf
    have hR : RS G K (ov I [(1105, o, rr5.1), (1106, o, rr5.2.1), (1107, o, rr5.2.2.1), (1108, o, rr5.2.2.2.1), (1109, o, rr5.2.2.2.2.1), (1110, o, i_fault), (1111, o, i_at), (1113, o, i_told), (1123, o, v4)]) (ov J [(1112, o, rr5.2.2.2.2.2)]) X (ova A [((o + 1), a_tape), ((o + 3), a_read)]) B Q H := hR
    have hl : lv_has ls 3 [(0, .ref o), (2, .int w24_2)] := hl
    unfold f14_readOnce_s24 at hf
    refine lv_iload_n hx hb dX14_readOnce_171 rfl (lv_at hl 1 rfl) ?_
    refine lv_iconst (v := 4) hx hb dX14_readOnce_172 li_4 ?_
    refine lv_icmp_ge (tgt := 193) hx hb dX14_readOnce_173 (by decide) (fun c30 => ?_) (fun c30 => ?_)
    · have hf := ite_t c30 hf
      obtain rfl := some_i hf
      replace hk24 : _ = rl24 := hk24
      subst hk24
      exact hx24_0 w24_2 hfo24 _ _ _ hR hS (lv_sub hl [0, 1] rfl)
    · have hf := ite_f c30 hf
      refine lv_aload_n hx hb dX14_readOnce_176 rfl (lv_at hl 0 rfl) ?_
      refine lv_bipush (v := 10) hx hb dX14_readOnce_177 lb_10 ?_
      refine lv_iload_n hx hb dX14_readOnce_179 rfl (lv_at hl 1 rfl) ?_
      obtain ⟨v31, ev31, hf⟩ := lt_some hf
      refine n_iadd hx hb ev31 dX14_readOnce_180 ?_
      obtain ⟨rr32, hrr32, hf⟩ := bind_s hf
      refine g0_cV (rm := (2, 46)) (As := [.int v31]) (rest := []) ⟨hx, hb, hml, hown, hts⟩ hG hR hS (m14_isWord l G K (ov I [(1105, o, rr5.1), (1106, o, rr5.2.1), (1107, o, rr5.2.2.1), (1108, o, rr5.2.2.2.1), (1109, o, rr5.2.2.2.2.1), (1110, o, i_fault), (1111, o, i_at), (1113, o, i_told), (1123, o, v4)]) (ov J [(1112, o, rr5.2.2.2.2.2)]) X (ova A [((o + 1), a_tape), ((o + 3), a_read)]) B Q o shM v31 rr5.2.2.1 rr5.2.2.2.2.2 (ov_get 2 rfl rfl) (ov_get 0 rfl rfl) rr32 hrr32) (cwV 1 hts gi_X14_264 rfl rfl rfl hd_X14_isWord ⟨Nat.le_of_ble_eq_true rfl, Nat.le_of_ble_eq_true rfl⟩) shM.1 rfl rfl hl.1 (Nat.le_of_ble_eq_true rfl) dX14_readOnce_181 ⟨Nat.le_refl _, Nat.le_refl _⟩ rfl (fun H locs hR hS => ?_)
      refine lv_if_ne (tgt := 193) hx hb dX14_readOnce_184 (by decide) (fun c33 => ?_) (fun c33 => ?_)
      · have hf := ite_f c33 hf
        obtain rfl := some_i hf
        replace hk24 : _ = rl24 := hk24
        subst hk24
        exact hx24_0 w24_2 hfo24 _ _ _ hR hS (lv_sub hl [0, 1] rfl)
      · have hf := ite_t c33 hf
        obtain ⟨v34, ev34, hf⟩ := lt_some hf
        refine lv_iinc (k := 1) (v := v34) (lv' := [(2, .int v34), (0, .ref o)]) hx hb dX14_readOnce_187 hl rfl (by rw [ev34]; rfl) (by decide) rfl (fun ls hl => ?_)
        refine lv_goto (tgt := 171) hx hb dX14_readOnce_190 (by decide) ?_
        obtain rfl := some_i hf
        exact hk24 _ _ _ hR hS (lv_sub hl [1, 0] rfl)
  · have hf := ite_f c2 hf
    refine lv_aload_n hx hb dX14_readOnce_11 rfl (lv_at hl 0 rfl) ?_
    refine lv_iconst (v := 3) hx hb dX14_readOnce_12 li_3 ?_
    obtain ⟨rr35, hrr35, hf⟩ := bind_s hf
    refine g0_cV (rm := (0, 0)) (As := [.int (3 : Int32)]) (rest := []) ⟨hx, hb, hml, hown, hts⟩ hG hR hS (m14_bad l G K (ov I [(1105, o, i_to), (1106, o, i_from), (1107, o, i_kind), (1108, o, i_number), (1109, o, i_sign), (1110, o, i_fault), (1111, o, i_at), (1113, o, i_told), (1123, o, i_had)]) (ov J [(1112, o, j_word)]) X (ova A [((o + 1), a_tape), ((o + 3), a_read)]) B Q o shM (3 : Int32) i_from i_kind i_fault i_at (ov_get 1 rfl rfl) (ov_get 2 rfl rfl) (ov_get 5 rfl rfl) (ov_get 6 rfl rfl) rr35 hrr35) (cwV 1 hts gi_X14_216 rfl rfl rfl hd_X14_bad ⟨Nat.le_of_ble_eq_true rfl, Nat.le_of_ble_eq_true rfl⟩) shM.1 rfl rfl hl.1 (Nat.le_of_ble_eq_true rfl) dX14_readOnce_13 ⟨Nat.le_refl _, Nat.le_refl _⟩ rfl (fun H locs hR hS => ?_)
    have hR : RS G K (ov I [(1105, o, i_to), (1106, o, i_from), (1107, o, i_kind), (1108, o, i_number), (1109, o, i_sign), (1110, o, rr35.2.1), (1111, o, rr35.2.2), (1113, o, i_told), (1123, o, i_had)]) (ov J [(1112, o, j_word)]) X (ova A [((o + 1), a_tape), ((o + 3), a_read)]) B Q H := hR.to (ov_merge (l := [(1105, o, i_to), (1106, o, i_from), (1107, o, i_kind), (1108, o, i_number), (1109, o, i_sign), (1110, o, i_fault), (1111, o, i_at), (1113, o, i_told), (1123, o, i_had)]) rfl [5, 6] [(1110, o, rr35.2.1), (1111, o, rr35.2.2)] rfl rfl) rfl rfl rfl rfl rfl
    obtain ⟨hz9, hf⟩ := gd_some hf
    obtain rfl := some_i hf
    exact hend _ _ _ _ dX14_readOnce_16 (congrArg Value.int hz9) hR hS
noncomputable def f14_timeOf_j36 (p2 : Int32) (p3 : Int32) (a_now : Nat → Int32) (j36_s0 : Int32) : Option (Int32) :=
  (f14_manOf p3 (0 : Int32) a_now).bind fun rr3 =>
  lt (j36_s0 + rr3) fun v4 =>
  (f14_yards p2 a_now).bind fun rr5 =>
  gd (¬ (4 : Int32) = 0) <|
  lt (rr5 / (4 : Int32)) fun v6 =>
  lt (v4 + v6) fun v8 =>
  some v8

noncomputable def f14_timeOf (p1 : Int32) (p2 : Int32) (p3 : Int32) (a_now : Nat → Int32) : Option (Int32) :=
  lt (p2 - (1 : Int32)) fun v1 =>
  if p1 = v1 then
    gd (inb (8 : Int32) 800) <|
    lt (a_now (8 : Int32).toNatClampNeg) fun v13 =>
    (f14_manOf p3 (0 : Int32) a_now).bind fun rr14 =>
    lt (v13 + rr14) fun v15 =>
    some v15
  else
    if p1 = 0 then
      gd (inb (4 : Int32) 800) <|
      lt (a_now (4 : Int32).toNatClampNeg) fun v11 =>
      f14_timeOf_j36 p2 p3 a_now v11
    else
      f14_timeOf_j36 p2 p3 a_now (0 : Int32)
set_option maxHeartbeats 4000000 in
theorem m14_timeOf (l : Launch) (G : gG) (K : gK) (I : gI) (J : gJ) (X : gX) (A : gI) (B : gJ) (Q : gX) (o : Nat) (shM : Sh K X o 11 rows11) (p1 : Int32) (p2 : Int32) (p3 : Int32) (a_now : Nat → Int32) (e_a_now : A (o + 2) = a_now) (out : Int32) (hf : f14_timeOf p1 p2 p3 a_now = some out) : GMet l yX14_timeOf cX14_timeOf 4 (some .int) (2) (42) G [.ref o, .int p1, .int p2, .int p3] K I J X A B Q (some (.int out)) K I J X A B Q 0 0 := by
  refine GMet.of (y := yX14_timeOf) rfl (Nat.le_of_ble_eq_true rfl) rfl ?_
  intro p e s m below meth c ls hx hb hr hml hlocks hts hown hname hG hR hl
  have hown : s.vm.findClass RX14 = some m.cls := hown
  have k_a_now : K (o + 2) = some (.inr (0, 800)) := (shM.2 1 _ rfl).1
  have hR : RS G K I J X A B Q s.heap := hR.to rfl rfl rfl rfl rfl rfl
  have hS : va_S (gA G) s.heap s.heap [] := va_S.rf
  have hend : ∀ (pc : Nat) (H : Heap) (locs : List Loc) (ls : Array Slot), decode cX14_timeOf pc = .ok (.ireturn, 1) → RS G K I J X A B Q H → va_S (gA G) s.heap H locs → W p l e ({ frames := 2, cells := 0, slots := 0, locals := 42 } : Room) s m ([.ref o, .int p1, .int p2, .int p3] : List Value).toArray below meth c H locs 0 0 (MQ below (gQ G (some (.int out)) K I J X A B Q) ([.ref o, .int p1, .int p2, .int p3] : List Value).toArray s 0 0 (gA G)) (F0 m pc ls [.int out]) := fun pc H locs ls hd hR hS => g_iret hx hb hr hlocks hG hR hS rfl hd
  generalize MQ below (gQ G (some (.int out)) K I J X A B Q) ([.ref o, .int p1, .int p2, .int p3] : List Value).toArray s 0 0 (gA G) = Z at hend ⊢
  generalize ([.ref o, .int p1, .int p2, .int p3] : List Value).toArray = args at hts hend ⊢
  unfold f14_timeOf at hf
  refine lv_iload_n hx hb dX14_timeOf_0 rfl (lv_at hl 1 rfl) ?_
  refine lv_iload_n hx hb dX14_timeOf_1 rfl (lv_at hl 2 rfl) ?_
  refine lv_iconst (v := 1) hx hb dX14_timeOf_2 li_1 ?_
  obtain ⟨v1, ev1, hf⟩ := lt_some hf
  refine n_isub hx hb ev1 dX14_timeOf_3 ?_
  refine lv_icmp_ne (tgt := 22) hx hb dX14_timeOf_4 (by decide) (fun c2 => ?_) (fun c2 => ?_)
  · have hf := ite_f c2 hf
    refine lv_iload_n hx hb dX14_timeOf_22 rfl (lv_at hl 1 rfl) ?_
    have hj36 : ∀ (j36_s0 : Int32), f14_timeOf_j36 p2 p3 a_now j36_s0 = some out → ∀ (H : Heap) (locs : List Loc) (ls : Array Slot), RS G K I J X A B Q H → va_S (gA G) s.heap H locs → lv_has ls 4 [(0, .ref o), (2, .int p2), (3, .int p3)] → W p l e ({ frames := 2, cells := 0, slots := 0, locals := 42 } : Room) s m args below meth c H locs 0 0 Z (F0 m 36 ls [.int j36_s0]) := by
      intro j36_s0 hf H locs ls hR hS hl
      unfold f14_timeOf_j36 at hf
      refine lv_aload_n hx hb dX14_timeOf_36 rfl (lv_at hl 0 rfl) ?_
      refine lv_iload_n hx hb dX14_timeOf_37 rfl (lv_at hl 2 rfl) ?_
      refine lv_iconst (v := 0) hx hb dX14_timeOf_38 li_0 ?_
      obtain ⟨rr3, hrr3, hf⟩ := bind_s hf
      refine g0_cV (rm := (0, 0)) (As := [.int p3, .int (0 : Int32)]) (rest := [.int j36_s0]) ⟨hx, hb, hml, hown, hts⟩ hG hR hS (m14_manOf l G K I J X A B Q o shM p3 (0 : Int32) a_now e_a_now rr3 hrr3) (cwV 2 hts gi_X14_294 rfl rfl rfl hd_X14_manOf ⟨Nat.le_of_ble_eq_true rfl, Nat.le_of_ble_eq_true rfl⟩) shM.1 rfl rfl hl.1 (Nat.le_of_ble_eq_true rfl) dX14_timeOf_39 ⟨Nat.le_refl _, Nat.le_refl _⟩ rfl (fun H locs hR hS => ?_)
      obtain ⟨v4, ev4, hf⟩ := lt_some hf
      refine n_iadd hx hb ev4 dX14_timeOf_42 ?_
      refine lv_aload_n hx hb dX14_timeOf_43 rfl (lv_at hl 0 rfl) ?_
      refine lv_iload_n hx hb dX14_timeOf_44 rfl (lv_at hl 1 rfl) ?_
      obtain ⟨rr5, hrr5, hf⟩ := bind_s hf
      refine g0_cV (rm := (1, 21)) (As := [.int p2]) (rest := [.int v4]) ⟨hx, hb, hml, hown, hts⟩ hG hR hS (m14_yards l G K I J X A B Q o shM p2 a_now e_a_now rr5 hrr5) (cwV 1 hts gi_X14_331 rfl rfl rfl hd_X14_yards ⟨Nat.le_of_ble_eq_true rfl, Nat.le_of_ble_eq_true rfl⟩) shM.1 rfl rfl hl.1 (Nat.le_of_ble_eq_true rfl) dX14_timeOf_45 ⟨Nat.le_refl _, Nat.le_refl _⟩ rfl (fun H locs hR hS => ?_)
      refine lv_iconst (v := 4) hx hb dX14_timeOf_48 li_4 ?_
      obtain ⟨c7, hf⟩ := gd_some hf
      obtain ⟨v6, ev6, hf⟩ := lt_some hf
      refine n_idiv hx hb c7 ev6 dX14_timeOf_49 ?_
      obtain ⟨v8, ev8, hf⟩ := lt_some hf
      refine n_iadd hx hb ev8 dX14_timeOf_50 ?_
      obtain rfl := some_i hf
      exact hend _ _ _ _ dX14_timeOf_51 hR hS
    refine lv_if_ne (tgt := 35) hx hb dX14_timeOf_23 (by decide) (fun c9 => ?_) (fun c9 => ?_)
    · have hf := ite_f c9 hf
      refine lv_iconst (v := 0) hx hb dX14_timeOf_35 li_0 ?_
      exact hj36 (0 : Int32) hf _ _ _ hR hS (lv_sub hl [0, 2, 3] rfl)
    · have hf := ite_t c9 hf
      refine lv_aload_n hx hb dX14_timeOf_26 rfl (lv_at hl 0 rfl) ?_
      refine g_getr (b := (o + 2)) hx hb hts hown hG hR gFx_X14_13_11 shM.1 ((shM.2 1 _ rfl).2) dX14_timeOf_27 ?_
      refine lv_iconst (v := 4) hx hb dX14_timeOf_30 li_4 ?_
      obtain ⟨c10, hf⟩ := gd_some hf
      obtain ⟨v11, ev11, hf⟩ := lt_some hf
      refine n_iald (x := a_now) hx hb hG hR k_a_now c10 e_a_now ev11 dX14_timeOf_31 ?_
      refine lv_goto (tgt := 36) hx hb dX14_timeOf_32 (by decide) ?_
      exact hj36 v11 hf _ _ _ hR hS (lv_sub hl [0, 2, 3] rfl)
  · have hf := ite_t c2 hf
    refine lv_aload_n hx hb dX14_timeOf_7 rfl (lv_at hl 0 rfl) ?_
    refine g_getr (b := (o + 2)) hx hb hts hown hG hR gFx_X14_13_11 shM.1 ((shM.2 1 _ rfl).2) dX14_timeOf_8 ?_
    refine lv_bipush (v := 8) hx hb dX14_timeOf_11 lb_8 ?_
    obtain ⟨c12, hf⟩ := gd_some hf
    obtain ⟨v13, ev13, hf⟩ := lt_some hf
    refine n_iald (x := a_now) hx hb hG hR k_a_now c12 e_a_now ev13 dX14_timeOf_13 ?_
    refine lv_aload_n hx hb dX14_timeOf_14 rfl (lv_at hl 0 rfl) ?_
    refine lv_iload_n hx hb dX14_timeOf_15 rfl (lv_at hl 3 rfl) ?_
    refine lv_iconst (v := 0) hx hb dX14_timeOf_16 li_0 ?_
    obtain ⟨rr14, hrr14, hf⟩ := bind_s hf
    refine g0_cV (rm := (0, 0)) (As := [.int p3, .int (0 : Int32)]) (rest := [.int v13]) ⟨hx, hb, hml, hown, hts⟩ hG hR hS (m14_manOf l G K I J X A B Q o shM p3 (0 : Int32) a_now e_a_now rr14 hrr14) (cwV 2 hts gi_X14_294 rfl rfl rfl hd_X14_manOf ⟨Nat.le_of_ble_eq_true rfl, Nat.le_of_ble_eq_true rfl⟩) shM.1 rfl rfl hl.1 (Nat.le_of_ble_eq_true rfl) dX14_timeOf_17 ⟨Nat.le_refl _, Nat.le_refl _⟩ rfl (fun H locs hR hS => ?_)
    obtain ⟨v15, ev15, hf⟩ := lt_some hf
    refine n_iadd hx hb ev15 dX14_timeOf_20 ?_
    obtain rfl := some_i hf
    exact hend _ _ _ _ dX14_timeOf_21 hR hS
noncomputable def f14_periodOf_e1_0 (x1_0 : Int32) : Option (Int32) :=
  some x1_0

noncomputable def f14_periodOf_j38 (w1_3 : Int32) (j38_2 : Int32) : Option ((Int32 × Int32) ⊕ (Int32)) :=
  lt (w1_3 + (1 : Int32)) fun v6 =>
  some (.inl (j38_2, v6))

noncomputable def f14_periodOf_s1 (p1 : Int32) (a_now : Nat → Int32) (a_team : Nat → Int32) (w1_2 : Int32) (w1_3 : Int32) : Option ((Int32 × Int32) ⊕ (Int32)) :=
  if p1 ≤ w1_3 then
    some (.inr w1_2)
  else
    gd (inb w1_3 12) <|
    lt (a_team w1_3.toNatClampNeg) fun v4 =>
    (f14_timeOf w1_3 p1 v4 a_now).bind fun rr5 =>
    if rr5 ≤ w1_2 then
      f14_periodOf_j38 w1_3 w1_2
    else
      gd (inb w1_3 12) <|
      lt (a_team w1_3.toNatClampNeg) fun v9 =>
      (f14_timeOf w1_3 p1 v9 a_now).bind fun rr10 =>
      f14_periodOf_j38 w1_3 rr10

noncomputable def f14_periodOf (p1 : Int32) (a_now : Nat → Int32) (a_team : Nat → Int32) : Option (Int32) :=
  (whl (fun (s1 : Int32 × Int32) => f14_periodOf_s1 p1 a_now a_team s1.1 s1.2) FU ((0 : Int32), (0 : Int32))).bind fun rl1 =>
  f14_periodOf_e1_0 rl1
set_option maxHeartbeats 4000000 in
theorem m14_periodOf (l : Launch) (G : gG) (K : gK) (I : gI) (J : gJ) (X : gX) (A : gI) (B : gJ) (Q : gX) (o : Nat) (shM : Sh K X o 11 rows11) (p1 : Int32) (a_now : Nat → Int32) (a_team : Nat → Int32) (e_a_now : A (o + 2) = a_now) (e_a_team : A (o + 10) = a_team) (out : Int32) (hf : f14_periodOf p1 a_now a_team = some out) : GMet l yX14_periodOf cX14_periodOf 4 (some .int) (3) (65) G [.ref o, .int p1] K I J X A B Q (some (.int out)) K I J X A B Q 0 0 := by
  refine GMet.of (y := yX14_periodOf) rfl (Nat.le_of_ble_eq_true rfl) rfl ?_
  intro p e s m below meth c ls hx hb hr hml hlocks hts hown hname hG hR hl
  have hown : s.vm.findClass RX14 = some m.cls := hown
  have k_a_now : K (o + 2) = some (.inr (0, 800)) := (shM.2 1 _ rfl).1
  have k_a_team : K (o + 10) = some (.inr (0, 12)) := (shM.2 9 _ rfl).1
  have hR : RS G K I J X A B Q s.heap := hR.to rfl rfl rfl rfl rfl rfl
  have hS : va_S (gA G) s.heap s.heap [] := va_S.rf
  have hend : ∀ (pc : Nat) (H : Heap) (locs : List Loc) (ls : Array Slot), decode cX14_periodOf pc = .ok (.ireturn, 1) → RS G K I J X A B Q H → va_S (gA G) s.heap H locs → W p l e ({ frames := 3, cells := 0, slots := 0, locals := 65 } : Room) s m ([.ref o, .int p1] : List Value).toArray below meth c H locs 0 0 (MQ below (gQ G (some (.int out)) K I J X A B Q) ([.ref o, .int p1] : List Value).toArray s 0 0 (gA G)) (F0 m pc ls [.int out]) := fun pc H locs ls hd hR hS => g_iret hx hb hr hlocks hG hR hS rfl hd
  generalize MQ below (gQ G (some (.int out)) K I J X A B Q) ([.ref o, .int p1] : List Value).toArray s 0 0 (gA G) = Z at hend ⊢
  generalize ([.ref o, .int p1] : List Value).toArray = args at hts hend ⊢
  unfold f14_periodOf at hf
  refine lv_iconst (v := 0) hx hb dX14_periodOf_0 li_0 ?_
  refine lv_istore_n (lv' := [(2, .int (0 : Int32)), (0, .ref o), (1, .int p1)]) hx hb dX14_periodOf_1 rfl hl (by decide) rfl (fun ls hl => ?_)
  refine lv_iconst (v := 0) hx hb dX14_periodOf_2 li_0 ?_
  refine lv_istore_n (lv' := [(3, .int (0 : Int32)), (2, .int (0 : Int32)), (0, .ref o), (1, .int p1)]) hx hb dX14_periodOf_3 rfl hl (by decide) rfl (fun ls hl => ?_)
  obtain ⟨rl1, hw1, hfo1⟩ := bind_s hf
  have hx1_0 : ∀ (x1_0 : Int32), f14_periodOf_e1_0 x1_0 = some out → ∀ (H : Heap) (locs : List Loc) (ls : Array Slot), RS G K I J X A B Q H → va_S (gA G) s.heap H locs → lv_has ls 4 [(0, .ref o), (2, .int x1_0)] → W p l e ({ frames := 3, cells := 0, slots := 0, locals := 65 } : Room) s m args below meth c H locs 0 0 Z (F0 m 44 ls []) := by
    intro x1_0 hf H locs ls hR hS hl
    unfold f14_periodOf_e1_0 at hf
    refine lv_iload_n hx hb dX14_periodOf_44 rfl (lv_at hl 1 rfl) ?_
    obtain rfl := some_i hf
    exact hend _ _ _ _ dX14_periodOf_45 hR hS
  refine whl_walk (P := fun (s1 : Int32 × Int32) => ∀ (H : Heap) (locs : List Loc) (ls : Array Slot), RS G K I J X A B Q H → va_S (gA G) s.heap H locs → lv_has ls 4 [(0, .ref o), (1, .int p1), (2, .int s1.1), (3, .int s1.2)] → W p l e ({ frames := 3, cells := 0, slots := 0, locals := 65 } : Room) s m args below meth c H locs 0 0 Z (F0 m 4 ls [])) (r := rl1) ?_ FU _ hw1 _ _ _ hR hS (lv_sub hl [2, 3, 1, 0] rfl)
  clear hR hS hl hf
  intro s1 o1 hf hk1 H locs ls hR hS hl
  obtain ⟨w1_2, w1_3⟩ := s1
  have hf : f14_periodOf_s1 p1 a_now a_team w1_2 w1_3 = some o1 := hf
  have hR : RS G K I J X A B Q H := hR
  have hl : lv_has ls 4 [(0, .ref o), (1, .int p1), (2, .int w1_2), (3, .int w1_3)] := hl
  unfold f14_periodOf_s1 at hf
  refine lv_iload_n hx hb dX14_periodOf_4 rfl (lv_at hl 3 rfl) ?_
  refine lv_iload_n hx hb dX14_periodOf_5 rfl (lv_at hl 1 rfl) ?_
  refine lv_icmp_ge (tgt := 44) hx hb dX14_periodOf_6 (by decide) (fun c2 => ?_) (fun c2 => ?_)
  · have hf := ite_t c2 hf
    obtain rfl := some_i hf
    replace hk1 : _ = rl1 := hk1
    subst hk1
    exact hx1_0 w1_2 hfo1 _ _ _ hR hS (lv_sub hl [0, 2] rfl)
  · have hf := ite_f c2 hf
    refine lv_aload_n hx hb dX14_periodOf_9 rfl (lv_at hl 0 rfl) ?_
    refine lv_iload_n hx hb dX14_periodOf_10 rfl (lv_at hl 3 rfl) ?_
    refine lv_iload_n hx hb dX14_periodOf_11 rfl (lv_at hl 1 rfl) ?_
    refine lv_aload_n hx hb dX14_periodOf_12 rfl (lv_at hl 0 rfl) ?_
    refine g_getr (b := (o + 10)) hx hb hts hown hG hR gFx_X14_39_11 shM.1 ((shM.2 9 _ rfl).2) dX14_periodOf_13 ?_
    refine lv_iload_n hx hb dX14_periodOf_16 rfl (lv_at hl 3 rfl) ?_
    obtain ⟨c3, hf⟩ := gd_some hf
    obtain ⟨v4, ev4, hf⟩ := lt_some hf
    refine n_iald (x := a_team) hx hb hG hR k_a_team c3 e_a_team ev4 dX14_periodOf_17 ?_
    obtain ⟨rr5, hrr5, hf⟩ := bind_s hf
    refine g0_cV (rm := (2, 42)) (As := [.int w1_3, .int p1, .int v4]) (rest := []) ⟨hx, hb, hml, hown, hts⟩ hG hR hS (m14_timeOf l G K I J X A B Q o shM w1_3 p1 v4 a_now e_a_now rr5 hrr5) (cwV 3 hts gi_X14_347 rfl rfl rfl hd_X14_timeOf ⟨Nat.le_of_ble_eq_true rfl, Nat.le_of_ble_eq_true rfl⟩) shM.1 rfl rfl hl.1 (Nat.le_of_ble_eq_true rfl) dX14_periodOf_18 ⟨Nat.le_refl _, Nat.le_refl _⟩ rfl (fun H locs hR hS => ?_)
    refine lv_iload_n hx hb dX14_periodOf_21 rfl (lv_at hl 2 rfl) ?_
    have hj38 : ∀ (j38_2 : Int32), f14_periodOf_j38 w1_3 j38_2 = some o1 → ∀ (H : Heap) (locs : List Loc) (ls : Array Slot), RS G K I J X A B Q H → va_S (gA G) s.heap H locs → lv_has ls 4 [(0, .ref o), (1, .int p1), (2, .int j38_2), (3, .int w1_3)] → W p l e ({ frames := 3, cells := 0, slots := 0, locals := 65 } : Room) s m args below meth c H locs 0 0 Z (F0 m 38 ls []) := by
      intro j38_2 hf H locs ls hR hS hl
      unfold f14_periodOf_j38 at hf
      obtain ⟨v6, ev6, hf⟩ := lt_some hf
      refine lv_iinc (k := 3) (v := v6) (lv' := [(3, .int v6), (0, .ref o), (1, .int p1), (2, .int j38_2)]) hx hb dX14_periodOf_38 hl rfl (by rw [ev6]; rfl) (by decide) rfl (fun ls hl => ?_)
      refine lv_goto (tgt := 4) hx hb dX14_periodOf_41 (by decide) ?_
      obtain rfl := some_i hf
      exact hk1 _ _ _ hR hS (lv_sub hl [1, 2, 3, 0] rfl)
    refine lv_icmp_le (tgt := 38) hx hb dX14_periodOf_22 (by decide) (fun c7 => ?_) (fun c7 => ?_)
    · have hf := ite_t c7 hf
      exact hj38 w1_2 hf _ _ _ hR hS (lv_sub hl [0, 1, 2, 3] rfl)
    · have hf := ite_f c7 hf
      refine lv_aload_n hx hb dX14_periodOf_25 rfl (lv_at hl 0 rfl) ?_
      refine lv_iload_n hx hb dX14_periodOf_26 rfl (lv_at hl 3 rfl) ?_
      refine lv_iload_n hx hb dX14_periodOf_27 rfl (lv_at hl 1 rfl) ?_
      refine lv_aload_n hx hb dX14_periodOf_28 rfl (lv_at hl 0 rfl) ?_
      refine g_getr (b := (o + 10)) hx hb hts hown hG hR gFx_X14_39_11 shM.1 ((shM.2 9 _ rfl).2) dX14_periodOf_29 ?_
      refine lv_iload_n hx hb dX14_periodOf_32 rfl (lv_at hl 3 rfl) ?_
      obtain ⟨c8, hf⟩ := gd_some hf
      obtain ⟨v9, ev9, hf⟩ := lt_some hf
      refine n_iald (x := a_team) hx hb hG hR k_a_team c8 e_a_team ev9 dX14_periodOf_33 ?_
      obtain ⟨rr10, hrr10, hf⟩ := bind_s hf
      refine g0_cV (rm := (2, 42)) (As := [.int w1_3, .int p1, .int v9]) (rest := []) ⟨hx, hb, hml, hown, hts⟩ hG hR hS (m14_timeOf l G K I J X A B Q o shM w1_3 p1 v9 a_now e_a_now rr10 hrr10) (cwV 3 hts gi_X14_347 rfl rfl rfl hd_X14_timeOf ⟨Nat.le_of_ble_eq_true rfl, Nat.le_of_ble_eq_true rfl⟩) shM.1 rfl rfl hl.1 (Nat.le_of_ble_eq_true rfl) dX14_periodOf_34 ⟨Nat.le_refl _, Nat.le_refl _⟩ rfl (fun H locs hR hS => ?_)
      refine lv_istore_n (lv' := [(2, .int rr10), (0, .ref o), (1, .int p1), (3, .int w1_3)]) hx hb dX14_periodOf_37 rfl hl (by decide) rfl (fun ls hl => ?_)
      exact hj38 rr10 hf _ _ _ hR hS (lv_sub hl [1, 2, 0, 3] rfl)
noncomputable def f14_shared (p1 : Int32) (p2 : Int32) (a_now : Nat → Int32) (a_team : Nat → Int32) (a_beside : Nat → Int32) : Option (Int32) :=
  gd (inb p1 12) <|
  lt (a_team p1.toNatClampNeg) fun v2 =>
  (f14_timeOf p1 p2 v2 a_now).bind fun rr3 =>
  gd (inb p1 12) <|
  lt (a_beside p1.toNatClampNeg) fun v5 =>
  lt (v5 + (1 : Int32)) fun v6 =>
  (f14_up rr3 v6).bind fun rr7 =>
  some rr7
set_option maxHeartbeats 4000000 in
theorem m14_shared (l : Launch) (G : gG) (K : gK) (I : gI) (J : gJ) (X : gX) (A : gI) (B : gJ) (Q : gX) (o : Nat) (shM : Sh K X o 11 rows11) (p1 : Int32) (p2 : Int32) (a_now : Nat → Int32) (a_team : Nat → Int32) (a_beside : Nat → Int32) (e_a_now : A (o + 2) = a_now) (e_a_team : A (o + 10) = a_team) (e_a_beside : A (o + 25) = a_beside) (out : Int32) (hf : f14_shared p1 p2 a_now a_team a_beside = some out) : GMet l yX14_shared cX14_shared 3 (some .int) (3) (65) G [.ref o, .int p1, .int p2] K I J X A B Q (some (.int out)) K I J X A B Q 0 0 := by
  refine GMet.of (y := yX14_shared) rfl (Nat.le_of_ble_eq_true rfl) rfl ?_
  intro p e s m below meth c ls hx hb hr hml hlocks hts hown hname hG hR hl
  have hown : s.vm.findClass RX14 = some m.cls := hown
  have k_a_now : K (o + 2) = some (.inr (0, 800)) := (shM.2 1 _ rfl).1
  have k_a_team : K (o + 10) = some (.inr (0, 12)) := (shM.2 9 _ rfl).1
  have k_a_beside : K (o + 25) = some (.inr (0, 12)) := (shM.2 24 _ rfl).1
  have hR : RS G K I J X A B Q s.heap := hR.to rfl rfl rfl rfl rfl rfl
  have hS : va_S (gA G) s.heap s.heap [] := va_S.rf
  have hend : ∀ (pc : Nat) (H : Heap) (locs : List Loc) (ls : Array Slot), decode cX14_shared pc = .ok (.ireturn, 1) → RS G K I J X A B Q H → va_S (gA G) s.heap H locs → W p l e ({ frames := 3, cells := 0, slots := 0, locals := 65 } : Room) s m ([.ref o, .int p1, .int p2] : List Value).toArray below meth c H locs 0 0 (MQ below (gQ G (some (.int out)) K I J X A B Q) ([.ref o, .int p1, .int p2] : List Value).toArray s 0 0 (gA G)) (F0 m pc ls [.int out]) := fun pc H locs ls hd hR hS => g_iret hx hb hr hlocks hG hR hS rfl hd
  generalize MQ below (gQ G (some (.int out)) K I J X A B Q) ([.ref o, .int p1, .int p2] : List Value).toArray s 0 0 (gA G) = Z at hend ⊢
  generalize ([.ref o, .int p1, .int p2] : List Value).toArray = args at hts hend ⊢
  unfold f14_shared at hf
  refine lv_aload_n hx hb dX14_shared_0 rfl (lv_at hl 0 rfl) ?_
  refine lv_iload_n hx hb dX14_shared_1 rfl (lv_at hl 1 rfl) ?_
  refine lv_iload_n hx hb dX14_shared_2 rfl (lv_at hl 2 rfl) ?_
  refine lv_aload_n hx hb dX14_shared_3 rfl (lv_at hl 0 rfl) ?_
  refine g_getr (b := (o + 10)) hx hb hts hown hG hR gFx_X14_39_11 shM.1 ((shM.2 9 _ rfl).2) dX14_shared_4 ?_
  refine lv_iload_n hx hb dX14_shared_7 rfl (lv_at hl 1 rfl) ?_
  obtain ⟨c1, hf⟩ := gd_some hf
  obtain ⟨v2, ev2, hf⟩ := lt_some hf
  refine n_iald (x := a_team) hx hb hG hR k_a_team c1 e_a_team ev2 dX14_shared_8 ?_
  obtain ⟨rr3, hrr3, hf⟩ := bind_s hf
  refine g0_cV (rm := (2, 42)) (As := [.int p1, .int p2, .int v2]) (rest := []) ⟨hx, hb, hml, hown, hts⟩ hG hR hS (m14_timeOf l G K I J X A B Q o shM p1 p2 v2 a_now e_a_now rr3 hrr3) (cwV 3 hts gi_X14_347 rfl rfl rfl hd_X14_timeOf ⟨Nat.le_of_ble_eq_true rfl, Nat.le_of_ble_eq_true rfl⟩) shM.1 rfl rfl hl.1 (Nat.le_of_ble_eq_true rfl) dX14_shared_9 ⟨Nat.le_refl _, Nat.le_refl _⟩ rfl (fun H locs hR hS => ?_)
  refine lv_aload_n hx hb dX14_shared_12 rfl (lv_at hl 0 rfl) ?_
  refine g_getr (b := (o + 25)) hx hb hts hown hG hR gFx_X14_84_11 shM.1 ((shM.2 24 _ rfl).2) dX14_shared_13 ?_
  refine lv_iload_n hx hb dX14_shared_16 rfl (lv_at hl 1 rfl) ?_
  obtain ⟨c4, hf⟩ := gd_some hf
  obtain ⟨v5, ev5, hf⟩ := lt_some hf
  refine n_iald (x := a_beside) hx hb hG hR k_a_beside c4 e_a_beside ev5 dX14_shared_17 ?_
  refine lv_iconst (v := 1) hx hb dX14_shared_18 li_1 ?_
  obtain ⟨v6, ev6, hf⟩ := lt_some hf
  refine n_iadd hx hb ev6 dX14_shared_19 ?_
  obtain ⟨rr7, hrr7, hf⟩ := bind_s hf
  refine g0_cS (rm := (0, 0)) (As := [.int rr3, .int v6]) (rest := []) ⟨hx, hb, hml, hown, hts⟩ hG hR hS (m14_up l G K I J X A B Q rr3 v6 rr7 hrr7) (cwS 2 hts gi_X14_328 rfl rfl rfl hd_X14_up ⟨Nat.le_of_ble_eq_true rfl, Nat.le_of_ble_eq_true rfl⟩) rfl hl.1 (Nat.le_of_ble_eq_true rfl) dX14_shared_20 ⟨Nat.le_refl _, Nat.le_refl _⟩ rfl (fun H locs hR hS => ?_)
  obtain rfl := some_i hf
  exact hend _ _ _ _ dX14_shared_23 hR hS
noncomputable def f14_aimed_e3_0 (x3_0 : Int32) : Option (Int32) :=
  some x3_0

noncomputable def f14_aimed_j178 (w3_6 : Int32) (j178_5 : Int32) : Option ((Int32 × Int32) ⊕ (Int32)) :=
  lt (w3_6 + (1 : Int32)) fun v9 =>
  some (.inl (j178_5, v9))

noncomputable def f14_aimed_j174 (w3_6 : Int32) : Option ((Int32 × Int32) ⊕ (Int32)) :=
  f14_aimed_j178 w3_6 w3_6

noncomputable def f14_aimed_s3 (p1 : Int32) (p4 : Int32) (n2 : Nat) (n3 : Nat) (a_now : Nat → Int32) (x2 : Nat → Int32) (x3 : Nat → Int32) (w3_5 : Int32) (w3_6 : Int32) : Option ((Int32 × Int32) ⊕ (Int32)) :=
  (f14_cells a_now).bind fun rr4 =>
  if rr4 ≤ w3_6 then
    some (.inr w3_5)
  else
    lt (p4 + w3_6) fun v6 =>
    gd (inb v6 n3) <|
    lt (x3 v6.toNatClampNeg) fun v8 =>
    if v8 = 0 then
      f14_aimed_j178 w3_6 w3_5
    else
      if w3_5 = (-1 : Int32) then
        f14_aimed_j174 w3_6
      else
        if p1 = (2 : Int32) then
          lt (p4 + w3_6) fun v20 =>
          gd (inb v20 n2) <|
          lt (x2 v20.toNatClampNeg) fun v22 =>
          lt (p4 + w3_5) fun v23 =>
          gd (inb v23 n2) <|
          lt (x2 v23.toNatClampNeg) fun v25 =>
          if v25 ≤ v22 then
            f14_aimed_j178 w3_6 w3_5
          else
            f14_aimed_j174 w3_6
        else
          lt (p4 + w3_6) fun v13 =>
          gd (inb v13 n2) <|
          lt (x2 v13.toNatClampNeg) fun v15 =>
          lt (p4 + w3_5) fun v16 =>
          gd (inb v16 n2) <|
          lt (x2 v16.toNatClampNeg) fun v18 =>
          if v15 ≤ v18 then
            f14_aimed_j178 w3_6 w3_5
          else
            f14_aimed_j174 w3_6

noncomputable def f14_aimed_j101 (p1 : Int32) (p4 : Int32) (n2 : Nat) (n3 : Nat) (a_now : Nat → Int32) (x2 : Nat → Int32) (x3 : Nat → Int32) (j101_5 : Int32) : Option (Int32) :=
  (whl (fun (s3 : Int32 × Int32) => f14_aimed_s3 p1 p4 n2 n3 a_now x2 x3 s3.1 s3.2) FU (j101_5, (0 : Int32))).bind fun rl3 =>
  f14_aimed_e3_0 rl3

noncomputable def f14_aimed_e28_0 (p1 : Int32) (p4 : Int32) (n2 : Nat) (n3 : Nat) (a_now : Nat → Int32) (x2 : Nat → Int32) (x3 : Nat → Int32) (x28_0 : Int32) : Option (Int32) :=
  if x28_0 = (-1 : Int32) then
    f14_aimed_j101 p1 p4 n2 n3 a_now x2 x3 x28_0
  else
    some x28_0

noncomputable def f14_aimed_j86 (w28_7 : Int32) (j86_5 : Int32) (j86_6 : Int32) : Option ((Int32 × Int32 × Int32) ⊕ (Int32)) :=
  lt (w28_7 + (1 : Int32)) fun v33 =>
  some (.inl (j86_5, j86_6, v33))

noncomputable def f14_aimed_s28 (p4 : Int32) (n2 : Nat) (n3 : Nat) (a_now : Nat → Int32) (x2 : Nat → Int32) (x3 : Nat → Int32) (w28_5 : Int32) (w28_6 : Int32) (w28_7 : Int32) : Option ((Int32 × Int32 × Int32) ⊕ (Int32)) :=
  (f14_cells a_now).bind fun rr30 =>
  if rr30 ≤ w28_7 then
    some (.inr w28_5)
  else
    (f14_heatOf w28_7 p4 n2 n3 a_now x2 x3).bind fun rr32 =>
    if w28_6 < rr32 then
      f14_aimed_j86 w28_7 w28_7 rr32
    else
      f14_aimed_j86 w28_7 w28_5 w28_6

noncomputable def f14_aimed (p1 : Int32) (p4 : Int32) (n2 : Nat) (n3 : Nat) (a_now : Nat → Int32) (x2 : Nat → Int32) (x3 : Nat → Int32) : Option (Int32) :=
  if p1 = 0 then
    some (-1 : Int32)
  else
    if p1 < (100 : Int32) then
      if p1 = (3 : Int32) then
        (whl (fun (s28 : Int32 × Int32 × Int32) => f14_aimed_s28 p4 n2 n3 a_now x2 x3 s28.1 s28.2.1 s28.2.2) FU ((-1 : Int32), (0 : Int32), (0 : Int32))).bind fun rl28 =>
        f14_aimed_e28_0 p1 p4 n2 n3 a_now x2 x3 rl28
      else
        f14_aimed_j101 p1 p4 n2 n3 a_now x2 x3 (-1 : Int32)
    else
      (f14_columns a_now).bind fun rr35 =>
      lt (p1 - (100 : Int32)) fun v36 =>
      gd (¬ (10 : Int32) = 0) <|
      lt (v36 / (10 : Int32)) fun v37 =>
      lt (rr35 * v37) fun v39 =>
      lt (p1 - (100 : Int32)) fun v40 =>
      gd (¬ (10 : Int32) = 0) <|
      lt (v40 - v40 / (10 : Int32) * (10 : Int32)) fun v41 =>
      lt (v39 + v41) fun v43 =>
      some v43
set_option maxHeartbeats 4000000 in
theorem m14_aimed (l : Launch) (G : gG) (K : gK) (I : gI) (J : gJ) (X : gX) (A : gI) (B : gJ) (Q : gX) (o : Nat) (shM : Sh K X o 11 rows11) (r2 n2 : Nat) (k_x2 : K r2 = some (.inr (0, n2))) (r3 n3 : Nat) (k_x3 : K r3 = some (.inr (0, n3))) (p1 : Int32) (p4 : Int32) (a_now : Nat → Int32) (x2 : Nat → Int32) (x3 : Nat → Int32) (e_a_now : A (o + 2) = a_now) (e_x2 : A r2 = x2) (e_x3 : A r3 = x3) (out : Int32) (hf : f14_aimed p1 p4 n2 n3 a_now x2 x3 = some out) : GMet l yX14_aimed cX14_aimed 9 (some .int) (3) (72) G [.ref o, .int p1, .ref r2, .ref r3, .int p4] K I J X A B Q (some (.int out)) K I J X A B Q 0 0 := by
  refine GMet.of (y := yX14_aimed) rfl (Nat.le_of_ble_eq_true rfl) rfl ?_
  intro p e s m below meth c ls hx hb hr hml hlocks hts hown hname hG hR hl
  have hown : s.vm.findClass RX14 = some m.cls := hown
  have k_a_now : K (o + 2) = some (.inr (0, 800)) := (shM.2 1 _ rfl).1
  have hR : RS G K I J X A B Q s.heap := hR.to rfl rfl rfl rfl rfl rfl
  have hS : va_S (gA G) s.heap s.heap [] := va_S.rf
  have hend : ∀ (pc : Nat) (H : Heap) (locs : List Loc) (ls : Array Slot), decode cX14_aimed pc = .ok (.ireturn, 1) → RS G K I J X A B Q H → va_S (gA G) s.heap H locs → W p l e ({ frames := 3, cells := 0, slots := 0, locals := 72 } : Room) s m ([.ref o, .int p1, .ref r2, .ref r3, .int p4] : List Value).toArray below meth c H locs 0 0 (MQ below (gQ G (some (.int out)) K I J X A B Q) ([.ref o, .int p1, .ref r2, .ref r3, .int p4] : List Value).toArray s 0 0 (gA G)) (F0 m pc ls [.int out]) := fun pc H locs ls hd hR hS => g_iret hx hb hr hlocks hG hR hS rfl hd
  generalize MQ below (gQ G (some (.int out)) K I J X A B Q) ([.ref o, .int p1, .ref r2, .ref r3, .int p4] : List Value).toArray s 0 0 (gA G) = Z at hend ⊢
  generalize ([.ref o, .int p1, .ref r2, .ref r3, .int p4] : List Value).toArray = args at hts hend ⊢
  unfold f14_aimed at hf
  refine lv_iload_n hx hb dX14_aimed_0 rfl (lv_at hl 1 rfl) ?_
  refine lv_if_ne (tgt := 6) hx hb dX14_aimed_1 (by decide) (fun c1 => ?_) (fun c1 => ?_)
  · have hf := ite_f c1 hf
    refine lv_iload_n hx hb dX14_aimed_6 rfl (lv_at hl 1 rfl) ?_
    refine lv_bipush (v := 100) hx hb dX14_aimed_7 lb_100 ?_
    refine lv_icmp_lt (tgt := 33) hx hb dX14_aimed_9 (by decide) (fun c2 => ?_) (fun c2 => ?_)
    · have hf := ite_t c2 hf
      refine lv_iconst (v := -1) hx hb dX14_aimed_33 li_m1 ?_
      refine lv_istore (lv' := [(5, .int (-1 : Int32)), (0, .ref o), (1, .int p1), (2, .ref r2), (3, .ref r3), (4, .int p4)]) hx hb dX14_aimed_34 hl (by decide) rfl (fun ls hl => ?_)
      refine lv_iload_n hx hb dX14_aimed_36 rfl (lv_at hl 2 rfl) ?_
      refine lv_iconst (v := 3) hx hb dX14_aimed_37 li_3 ?_
      have hj101 : ∀ (j101_5 : Int32), f14_aimed_j101 p1 p4 n2 n3 a_now x2 x3 j101_5 = some out → ∀ (H : Heap) (locs : List Loc) (ls : Array Slot), RS G K I J X A B Q H → va_S (gA G) s.heap H locs → lv_has ls 9 [(0, .ref o), (1, .int p1), (2, .ref r2), (3, .ref r3), (4, .int p4), (5, .int j101_5)] → W p l e ({ frames := 3, cells := 0, slots := 0, locals := 72 } : Room) s m args below meth c H locs 0 0 Z (F0 m 101 ls []) := by
        intro j101_5 hf H locs ls hR hS hl
        unfold f14_aimed_j101 at hf
        refine lv_iconst (v := 0) hx hb dX14_aimed_101 li_0 ?_
        refine lv_istore (lv' := [(6, .int (0 : Int32)), (0, .ref o), (1, .int p1), (2, .ref r2), (3, .ref r3), (4, .int p4), (5, .int j101_5)]) hx hb dX14_aimed_102 hl (by decide) rfl (fun ls hl => ?_)
        obtain ⟨rl3, hw3, hfo3⟩ := bind_s hf
        have hx3_0 : ∀ (x3_0 : Int32), f14_aimed_e3_0 x3_0 = some out → ∀ (H : Heap) (locs : List Loc) (ls : Array Slot), RS G K I J X A B Q H → va_S (gA G) s.heap H locs → lv_has ls 9 [(0, .ref o), (5, .int x3_0)] → W p l e ({ frames := 3, cells := 0, slots := 0, locals := 72 } : Room) s m args below meth c H locs 0 0 Z (F0 m 184 ls []) := by
          intro x3_0 hf H locs ls hR hS hl
          unfold f14_aimed_e3_0 at hf
          refine lv_iload hx hb dX14_aimed_184 (lv_at hl 1 rfl) ?_
          obtain rfl := some_i hf
          exact hend _ _ _ _ dX14_aimed_186 hR hS
        refine whl_walk (P := fun (s3 : Int32 × Int32) => ∀ (H : Heap) (locs : List Loc) (ls : Array Slot), RS G K I J X A B Q H → va_S (gA G) s.heap H locs → lv_has ls 9 [(0, .ref o), (1, .int p1), (2, .ref r2), (3, .ref r3), (4, .int p4), (5, .int s3.1), (6, .int s3.2)] → W p l e ({ frames := 3, cells := 0, slots := 0, locals := 72 } : Room) s m args below meth c H locs 0 0 Z (F0 m 104 ls [])) (r := rl3) ?_ FU _ hw3 _ _ _ hR hS (lv_sub hl [1, 2, 3, 4, 5, 6, 0] rfl)
        clear hR hS hl hf
        intro s3 o3 hf hk3 H locs ls hR hS hl
        obtain ⟨w3_5, w3_6⟩ := s3
        have hf : f14_aimed_s3 p1 p4 n2 n3 a_now x2 x3 w3_5 w3_6 = some o3 := hf
        have hR : RS G K I J X A B Q H := hR
        have hl : lv_has ls 9 [(0, .ref o), (1, .int p1), (2, .ref r2), (3, .ref r3), (4, .int p4), (5, .int w3_5), (6, .int w3_6)] := hl
        unfold f14_aimed_s3 at hf
        refine lv_iload hx hb dX14_aimed_104 (lv_at hl 6 rfl) ?_
        refine lv_aload_n hx hb dX14_aimed_106 rfl (lv_at hl 0 rfl) ?_
        obtain ⟨rr4, hrr4, hf⟩ := bind_s hf
        refine g0_cV (rm := (0, 0)) (As := []) (rest := [.int w3_6]) ⟨hx, hb, hml, hown, hts⟩ hG hR hS (m14_cells l G K I J X A B Q o shM a_now e_a_now rr4 hrr4) (cwV 0 hts gi_X14_426 rfl rfl rfl hd_X14_cells ⟨Nat.le_of_ble_eq_true rfl, Nat.le_of_ble_eq_true rfl⟩) shM.1 rfl rfl hl.1 (Nat.le_of_ble_eq_true rfl) dX14_aimed_107 ⟨Nat.le_refl _, Nat.le_refl _⟩ rfl (fun H locs hR hS => ?_)
        refine lv_icmp_ge (tgt := 184) hx hb dX14_aimed_110 (by decide) (fun c5 => ?_) (fun c5 => ?_)
        · have hf := ite_t c5 hf
          obtain rfl := some_i hf
          replace hk3 : _ = rl3 := hk3
          subst hk3
          exact hx3_0 w3_5 hfo3 _ _ _ hR hS (lv_sub hl [0, 5] rfl)
        · have hf := ite_f c5 hf
          refine lv_aload_n hx hb dX14_aimed_113 rfl (lv_at hl 3 rfl) ?_
          refine lv_iload hx hb dX14_aimed_114 (lv_at hl 4 rfl) ?_
          refine lv_iload hx hb dX14_aimed_116 (lv_at hl 6 rfl) ?_
          obtain ⟨v6, ev6, hf⟩ := lt_some hf
          refine n_iadd hx hb ev6 dX14_aimed_118 ?_
          obtain ⟨c7, hf⟩ := gd_some hf
          obtain ⟨v8, ev8, hf⟩ := lt_some hf
          refine n_iald (x := x3) hx hb hG hR k_x3 c7 e_x3 ev8 dX14_aimed_119 ?_
          have hj178 : ∀ (j178_5 : Int32), f14_aimed_j178 w3_6 j178_5 = some o3 → ∀ (H : Heap) (locs : List Loc) (ls : Array Slot), RS G K I J X A B Q H → va_S (gA G) s.heap H locs → lv_has ls 9 [(0, .ref o), (1, .int p1), (2, .ref r2), (3, .ref r3), (4, .int p4), (5, .int j178_5), (6, .int w3_6)] → W p l e ({ frames := 3, cells := 0, slots := 0, locals := 72 } : Room) s m args below meth c H locs 0 0 Z (F0 m 178 ls []) := by
            intro j178_5 hf H locs ls hR hS hl
            unfold f14_aimed_j178 at hf
            obtain ⟨v9, ev9, hf⟩ := lt_some hf
            refine lv_iinc (k := 6) (v := v9) (lv' := [(6, .int v9), (0, .ref o), (1, .int p1), (2, .ref r2), (3, .ref r3), (4, .int p4), (5, .int j178_5)]) hx hb dX14_aimed_178 hl rfl (by rw [ev9]; rfl) (by decide) rfl (fun ls hl => ?_)
            refine lv_goto (tgt := 104) hx hb dX14_aimed_181 (by decide) ?_
            obtain rfl := some_i hf
            exact hk3 _ _ _ hR hS (lv_sub hl [1, 2, 3, 4, 5, 6, 0] rfl)
          refine lv_if_ne (tgt := 126) hx hb dX14_aimed_120 (by decide) (fun c10 => ?_) (fun c10 => ?_)
          · have hf := ite_f c10 hf
            refine lv_iload hx hb dX14_aimed_126 (lv_at hl 5 rfl) ?_
            refine lv_iconst (v := -1) hx hb dX14_aimed_128 li_m1 ?_
            have hj174 : ∀ (_ : Unit), f14_aimed_j174 w3_6 = some o3 → ∀ (H : Heap) (locs : List Loc) (ls : Array Slot), RS G K I J X A B Q H → va_S (gA G) s.heap H locs → lv_has ls 9 [(0, .ref o), (1, .int p1), (2, .ref r2), (3, .ref r3), (4, .int p4), (6, .int w3_6)] → W p l e ({ frames := 3, cells := 0, slots := 0, locals := 72 } : Room) s m args below meth c H locs 0 0 Z (F0 m 174 ls []) := by
              intro _ hf H locs ls hR hS hl
              unfold f14_aimed_j174 at hf
              refine lv_iload hx hb dX14_aimed_174 (lv_at hl 5 rfl) ?_
              refine lv_istore (lv' := [(5, .int w3_6), (0, .ref o), (1, .int p1), (2, .ref r2), (3, .ref r3), (4, .int p4), (6, .int w3_6)]) hx hb dX14_aimed_176 hl (by decide) rfl (fun ls hl => ?_)
              exact hj178 w3_6 hf _ _ _ hR hS (lv_sub hl [1, 2, 3, 4, 5, 0, 6] rfl)
            refine lv_icmp_eq (tgt := 174) hx hb dX14_aimed_129 (by decide) (fun c11 => ?_) (fun c11 => ?_)
            · have hf := ite_t c11 hf
              exact hj174 () hf _ _ _ hR hS (lv_sub hl [0, 1, 2, 3, 4, 6] rfl)
            · have hf := ite_f c11 hf
              refine lv_iload_n hx hb dX14_aimed_132 rfl (lv_at hl 1 rfl) ?_
              refine lv_iconst (v := 2) hx hb dX14_aimed_133 li_2 ?_
              refine lv_icmp_ne (tgt := 157) hx hb dX14_aimed_134 (by decide) (fun c12 => ?_) (fun c12 => ?_)
              · have hf := ite_f c12 hf
                refine lv_aload_n hx hb dX14_aimed_157 rfl (lv_at hl 2 rfl) ?_
                refine lv_iload hx hb dX14_aimed_158 (lv_at hl 4 rfl) ?_
                refine lv_iload hx hb dX14_aimed_160 (lv_at hl 6 rfl) ?_
                obtain ⟨v13, ev13, hf⟩ := lt_some hf
                refine n_iadd hx hb ev13 dX14_aimed_162 ?_
                obtain ⟨c14, hf⟩ := gd_some hf
                obtain ⟨v15, ev15, hf⟩ := lt_some hf
                refine n_iald (x := x2) hx hb hG hR k_x2 c14 e_x2 ev15 dX14_aimed_163 ?_
                refine lv_aload_n hx hb dX14_aimed_164 rfl (lv_at hl 2 rfl) ?_
                refine lv_iload hx hb dX14_aimed_165 (lv_at hl 4 rfl) ?_
                refine lv_iload hx hb dX14_aimed_167 (lv_at hl 5 rfl) ?_
                obtain ⟨v16, ev16, hf⟩ := lt_some hf
                refine n_iadd hx hb ev16 dX14_aimed_169 ?_
                obtain ⟨c17, hf⟩ := gd_some hf
                obtain ⟨v18, ev18, hf⟩ := lt_some hf
                refine n_iald (x := x2) hx hb hG hR k_x2 c17 e_x2 ev18 dX14_aimed_170 ?_
                refine lv_icmp_le (tgt := 178) hx hb dX14_aimed_171 (by decide) (fun c19 => ?_) (fun c19 => ?_)
                · have hf := ite_t c19 hf
                  exact hj178 w3_5 hf _ _ _ hR hS (lv_sub hl [0, 1, 2, 3, 4, 5, 6] rfl)
                · have hf := ite_f c19 hf
                  exact hj174 () hf _ _ _ hR hS (lv_sub hl [0, 1, 2, 3, 4, 6] rfl)
              · have hf := ite_t c12 hf
                refine lv_aload_n hx hb dX14_aimed_137 rfl (lv_at hl 2 rfl) ?_
                refine lv_iload hx hb dX14_aimed_138 (lv_at hl 4 rfl) ?_
                refine lv_iload hx hb dX14_aimed_140 (lv_at hl 6 rfl) ?_
                obtain ⟨v20, ev20, hf⟩ := lt_some hf
                refine n_iadd hx hb ev20 dX14_aimed_142 ?_
                obtain ⟨c21, hf⟩ := gd_some hf
                obtain ⟨v22, ev22, hf⟩ := lt_some hf
                refine n_iald (x := x2) hx hb hG hR k_x2 c21 e_x2 ev22 dX14_aimed_143 ?_
                refine lv_aload_n hx hb dX14_aimed_144 rfl (lv_at hl 2 rfl) ?_
                refine lv_iload hx hb dX14_aimed_145 (lv_at hl 4 rfl) ?_
                refine lv_iload hx hb dX14_aimed_147 (lv_at hl 5 rfl) ?_
                obtain ⟨v23, ev23, hf⟩ := lt_some hf
                refine n_iadd hx hb ev23 dX14_aimed_149 ?_
                obtain ⟨c24, hf⟩ := gd_some hf
                obtain ⟨v25, ev25, hf⟩ := lt_some hf
                refine n_iald (x := x2) hx hb hG hR k_x2 c24 e_x2 ev25 dX14_aimed_150 ?_
                refine lv_icmp_ge (tgt := 178) hx hb dX14_aimed_151 (by decide) (fun c26 => ?_) (fun c26 => ?_)
                · have hf := ite_t c26 hf
                  exact hj178 w3_5 hf _ _ _ hR hS (lv_sub hl [0, 1, 2, 3, 4, 5, 6] rfl)
                · have hf := ite_f c26 hf
                  refine lv_goto (tgt := 174) hx hb dX14_aimed_154 (by decide) ?_
                  exact hj174 () hf _ _ _ hR hS (lv_sub hl [0, 1, 2, 3, 4, 6] rfl)
          · have hf := ite_t c10 hf
            refine lv_goto (tgt := 178) hx hb dX14_aimed_123 (by decide) ?_
            exact hj178 w3_5 hf _ _ _ hR hS (lv_sub hl [0, 1, 2, 3, 4, 5, 6] rfl)
      refine lv_icmp_ne (tgt := 101) hx hb dX14_aimed_38 (by decide) (fun c27 => ?_) (fun c27 => ?_)
      · have hf := ite_f c27 hf
        exact hj101 (-1 : Int32) hf _ _ _ hR hS (lv_sub hl [1, 2, 3, 4, 5, 0] rfl)
      · have hf := ite_t c27 hf
        refine lv_iconst (v := 0) hx hb dX14_aimed_41 li_0 ?_
        refine lv_istore (lv' := [(6, .int (0 : Int32)), (5, .int (-1 : Int32)), (0, .ref o), (1, .int p1), (2, .ref r2), (3, .ref r3), (4, .int p4)]) hx hb dX14_aimed_42 hl (by decide) rfl (fun ls hl => ?_)
        refine lv_iconst (v := 0) hx hb dX14_aimed_44 li_0 ?_
        refine lv_istore (lv' := [(7, .int (0 : Int32)), (6, .int (0 : Int32)), (5, .int (-1 : Int32)), (0, .ref o), (1, .int p1), (2, .ref r2), (3, .ref r3), (4, .int p4)]) hx hb dX14_aimed_45 hl (by decide) rfl (fun ls hl => ?_)
        obtain ⟨rl28, hw28, hfo28⟩ := bind_s hf
        have hx28_0 : ∀ (x28_0 : Int32), f14_aimed_e28_0 p1 p4 n2 n3 a_now x2 x3 x28_0 = some out → ∀ (H : Heap) (locs : List Loc) (ls : Array Slot), RS G K I J X A B Q H → va_S (gA G) s.heap H locs → lv_has ls 9 [(0, .ref o), (1, .int p1), (2, .ref r2), (3, .ref r3), (4, .int p4), (5, .int x28_0)] → W p l e ({ frames := 3, cells := 0, slots := 0, locals := 72 } : Room) s m args below meth c H locs 0 0 Z (F0 m 92 ls []) := by
          intro x28_0 hf H locs ls hR hS hl
          unfold f14_aimed_e28_0 at hf
          refine lv_iload hx hb dX14_aimed_92 (lv_at hl 5 rfl) ?_
          refine lv_iconst (v := -1) hx hb dX14_aimed_94 li_m1 ?_
          refine lv_icmp_eq (tgt := 101) hx hb dX14_aimed_95 (by decide) (fun c29 => ?_) (fun c29 => ?_)
          · have hf := ite_t c29 hf
            exact hj101 x28_0 hf _ _ _ hR hS (lv_sub hl [0, 1, 2, 3, 4, 5] rfl)
          · have hf := ite_f c29 hf
            refine lv_iload hx hb dX14_aimed_98 (lv_at hl 5 rfl) ?_
            obtain rfl := some_i hf
            exact hend _ _ _ _ dX14_aimed_100 hR hS
        refine whl_walk (P := fun (s28 : Int32 × Int32 × Int32) => ∀ (H : Heap) (locs : List Loc) (ls : Array Slot), RS G K I J X A B Q H → va_S (gA G) s.heap H locs → lv_has ls 9 [(0, .ref o), (1, .int p1), (2, .ref r2), (3, .ref r3), (4, .int p4), (5, .int s28.1), (6, .int s28.2.1), (7, .int s28.2.2)] → W p l e ({ frames := 3, cells := 0, slots := 0, locals := 72 } : Room) s m args below meth c H locs 0 0 Z (F0 m 47 ls [])) (r := rl28) ?_ FU _ hw28 _ _ _ hR hS (lv_sub hl [3, 4, 5, 6, 7, 2, 1, 0] rfl)
        clear hR hS hl hf
        intro s28 o28 hf hk28 H locs ls hR hS hl
        obtain ⟨w28_5, w28_6, w28_7⟩ := s28
        have hf : f14_aimed_s28 p4 n2 n3 a_now x2 x3 w28_5 w28_6 w28_7 = some o28 := hf
        have hR : RS G K I J X A B Q H := hR
        have hl : lv_has ls 9 [(0, .ref o), (1, .int p1), (2, .ref r2), (3, .ref r3), (4, .int p4), (5, .int w28_5), (6, .int w28_6), (7, .int w28_7)] := hl
        unfold f14_aimed_s28 at hf
        refine lv_iload hx hb dX14_aimed_47 (lv_at hl 7 rfl) ?_
        refine lv_aload_n hx hb dX14_aimed_49 rfl (lv_at hl 0 rfl) ?_
        obtain ⟨rr30, hrr30, hf⟩ := bind_s hf
        refine g0_cV (rm := (0, 0)) (As := []) (rest := [.int w28_7]) ⟨hx, hb, hml, hown, hts⟩ hG hR hS (m14_cells l G K I J X A B Q o shM a_now e_a_now rr30 hrr30) (cwV 0 hts gi_X14_426 rfl rfl rfl hd_X14_cells ⟨Nat.le_of_ble_eq_true rfl, Nat.le_of_ble_eq_true rfl⟩) shM.1 rfl rfl hl.1 (Nat.le_of_ble_eq_true rfl) dX14_aimed_50 ⟨Nat.le_refl _, Nat.le_refl _⟩ rfl (fun H locs hR hS => ?_)
        refine lv_icmp_ge (tgt := 92) hx hb dX14_aimed_53 (by decide) (fun c31 => ?_) (fun c31 => ?_)
        · have hf := ite_t c31 hf
          obtain rfl := some_i hf
          replace hk28 : _ = rl28 := hk28
          subst hk28
          exact hx28_0 w28_5 hfo28 _ _ _ hR hS (lv_sub hl [0, 1, 2, 3, 4, 5] rfl)
        · have hf := ite_f c31 hf
          refine lv_aload_n hx hb dX14_aimed_56 rfl (lv_at hl 0 rfl) ?_
          refine lv_iload hx hb dX14_aimed_57 (lv_at hl 7 rfl) ?_
          refine lv_aload_n hx hb dX14_aimed_59 rfl (lv_at hl 2 rfl) ?_
          refine lv_aload_n hx hb dX14_aimed_60 rfl (lv_at hl 3 rfl) ?_
          refine lv_iload hx hb dX14_aimed_61 (lv_at hl 4 rfl) ?_
          obtain ⟨rr32, hrr32, hf⟩ := bind_s hf
          refine g0_cV (rm := (2, 44)) (As := [.int w28_7, .ref r2, .ref r3, .int p4]) (rest := []) ⟨hx, hb, hml, hown, hts⟩ hG hR hS (m14_heatOf l G K I J X A B Q o shM r2 n2 k_x2 r3 n3 k_x3 w28_7 p4 a_now x2 x3 e_a_now e_x2 e_x3 rr32 hrr32) (cwV 4 hts gi_X14_432 rfl rfl rfl hd_X14_heatOf ⟨Nat.le_of_ble_eq_true rfl, Nat.le_of_ble_eq_true rfl⟩) shM.1 rfl rfl hl.1 (Nat.le_of_ble_eq_true rfl) dX14_aimed_63 ⟨Nat.le_refl _, Nat.le_refl _⟩ rfl (fun H locs hR hS => ?_)
          refine lv_istore (lv' := [(8, .int rr32), (0, .ref o), (1, .int p1), (2, .ref r2), (3, .ref r3), (4, .int p4), (5, .int w28_5), (6, .int w28_6), (7, .int w28_7)]) hx hb dX14_aimed_66 hl (by decide) rfl (fun ls hl => ?_)
          refine lv_iload hx hb dX14_aimed_68 (lv_at hl 0 rfl) ?_
          refine lv_iload hx hb dX14_aimed_70 (lv_at hl 7 rfl) ?_
          have hj86 : ∀ (j86_5 : Int32) (j86_6 : Int32), f14_aimed_j86 w28_7 j86_5 j86_6 = some o28 → ∀ (H : Heap) (locs : List Loc) (ls : Array Slot), RS G K I J X A B Q H → va_S (gA G) s.heap H locs → lv_has ls 9 [(0, .ref o), (1, .int p1), (2, .ref r2), (3, .ref r3), (4, .int p4), (5, .int j86_5), (6, .int j86_6), (7, .int w28_7)] → W p l e ({ frames := 3, cells := 0, slots := 0, locals := 72 } : Room) s m args below meth c H locs 0 0 Z (F0 m 86 ls []) := by
            intro j86_5 j86_6 hf H locs ls hR hS hl
            unfold f14_aimed_j86 at hf
            obtain ⟨v33, ev33, hf⟩ := lt_some hf
            refine lv_iinc (k := 7) (v := v33) (lv' := [(7, .int v33), (0, .ref o), (1, .int p1), (2, .ref r2), (3, .ref r3), (4, .int p4), (5, .int j86_5), (6, .int j86_6)]) hx hb dX14_aimed_86 hl rfl (by rw [ev33]; rfl) (by decide) rfl (fun ls hl => ?_)
            refine lv_goto (tgt := 47) hx hb dX14_aimed_89 (by decide) ?_
            obtain rfl := some_i hf
            exact hk28 _ _ _ hR hS (lv_sub hl [1, 2, 3, 4, 5, 6, 7, 0] rfl)
          refine lv_icmp_gt (tgt := 78) hx hb dX14_aimed_72 (by decide) (fun c34 => ?_) (fun c34 => ?_)
          · have hf := ite_t c34 hf
            refine lv_iload hx hb dX14_aimed_78 (lv_at hl 0 rfl) ?_
            refine lv_istore (lv' := [(6, .int rr32), (8, .int rr32), (0, .ref o), (1, .int p1), (2, .ref r2), (3, .ref r3), (4, .int p4), (5, .int w28_5), (7, .int w28_7)]) hx hb dX14_aimed_80 hl (by decide) rfl (fun ls hl => ?_)
            refine lv_iload hx hb dX14_aimed_82 (lv_at hl 8 rfl) ?_
            refine lv_istore (lv' := [(5, .int w28_7), (6, .int rr32), (8, .int rr32), (0, .ref o), (1, .int p1), (2, .ref r2), (3, .ref r3), (4, .int p4), (7, .int w28_7)]) hx hb dX14_aimed_84 hl (by decide) rfl (fun ls hl => ?_)
            exact hj86 w28_7 rr32 hf _ _ _ hR hS (lv_sub hl [3, 4, 5, 6, 7, 0, 1, 8] rfl)
          · have hf := ite_f c34 hf
            refine lv_goto (tgt := 86) hx hb dX14_aimed_75 (by decide) ?_
            exact hj86 w28_5 w28_6 hf _ _ _ hR hS (lv_sub hl [1, 2, 3, 4, 5, 6, 7, 8] rfl)
    · have hf := ite_f c2 hf
      refine lv_aload_n hx hb dX14_aimed_12 rfl (lv_at hl 0 rfl) ?_
      obtain ⟨rr35, hrr35, hf⟩ := bind_s hf
      refine g0_cV (rm := (0, 0)) (As := []) (rest := []) ⟨hx, hb, hml, hown, hts⟩ hG hR hS (m14_columns l G K I J X A B Q o shM a_now e_a_now rr35 hrr35) (cwV 0 hts gi_X14_298 rfl rfl rfl hd_X14_columns ⟨Nat.le_of_ble_eq_true rfl, Nat.le_of_ble_eq_true rfl⟩) shM.1 rfl rfl hl.1 (Nat.le_of_ble_eq_true rfl) dX14_aimed_13 ⟨Nat.le_refl _, Nat.le_refl _⟩ rfl (fun H locs hR hS => ?_)
      refine lv_iload_n hx hb dX14_aimed_16 rfl (lv_at hl 1 rfl) ?_
      refine lv_bipush (v := 100) hx hb dX14_aimed_17 lb_100 ?_
      obtain ⟨v36, ev36, hf⟩ := lt_some hf
      refine n_isub hx hb ev36 dX14_aimed_19 ?_
      refine lv_bipush (v := 10) hx hb dX14_aimed_20 lb_10 ?_
      obtain ⟨c38, hf⟩ := gd_some hf
      obtain ⟨v37, ev37, hf⟩ := lt_some hf
      refine n_idiv hx hb c38 ev37 dX14_aimed_22 ?_
      obtain ⟨v39, ev39, hf⟩ := lt_some hf
      refine n_imul hx hb ev39 dX14_aimed_23 ?_
      refine lv_iload_n hx hb dX14_aimed_24 rfl (lv_at hl 1 rfl) ?_
      refine lv_bipush (v := 100) hx hb dX14_aimed_25 lb_100 ?_
      obtain ⟨v40, ev40, hf⟩ := lt_some hf
      refine n_isub hx hb ev40 dX14_aimed_27 ?_
      refine lv_bipush (v := 10) hx hb dX14_aimed_28 lb_10 ?_
      obtain ⟨c42, hf⟩ := gd_some hf
      obtain ⟨v41, ev41, hf⟩ := lt_some hf
      refine n_irem hx hb c42 ev41 dX14_aimed_30 ?_
      obtain ⟨v43, ev43, hf⟩ := lt_some hf
      refine n_iadd hx hb ev43 dX14_aimed_31 ?_
      obtain rfl := some_i hf
      exact hend _ _ _ _ dX14_aimed_32 hR hS
  · have hf := ite_t c1 hf
    refine lv_iconst (v := -1) hx hb dX14_aimed_4 li_m1 ?_
    obtain rfl := some_i hf
    exact hend _ _ _ _ dX14_aimed_5 hR hS
