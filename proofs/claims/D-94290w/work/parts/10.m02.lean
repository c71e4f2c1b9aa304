/-! the walks of PailRowModel (printed by tools) 2 -/
set_option maxRecDepth 100000
noncomputable def f14_readInto (p1 : Int32) (p2 : Int32) (p3 : Int32) (i_size : Int32) (i_limit : Int32) (i_to : Int32) (i_from : Int32) (i_kind : Int32) (i_number : Int32) (i_sign : Int32) (i_fault : Int32) (i_at : Int32) (i_told : Int32) (j_word : Int64) (a_tape : Nat → Int32) (a_read : Nat → Int32) : Option (Int32 × Int32 × Int32 × Int32 × Int32 × Int32 × Int32 × Int32 × Int32 × Int64 × (Nat → Int32)) :=
  (f14_readNumber p2 p3 i_size i_limit i_to i_from i_kind i_number i_sign i_fault i_at i_told j_word a_tape).bind fun rr1 =>
  if rr1.1 = 0 then
    some ((0 : Int32), rr1.2.1, rr1.2.2.1, rr1.2.2.2.1, rr1.2.2.2.2.1, rr1.2.2.2.2.2.1, rr1.2.2.2.2.2.2.1, rr1.2.2.2.2.2.2.2.1, rr1.2.2.2.2.2.2.2.2.1, rr1.2.2.2.2.2.2.2.2.2, a_read)
  else
    gd (inb p1 200) <|
    lt (upd a_read p1.toNatClampNeg rr1.2.2.2.2.2.2.2.2.1) fun u4 =>
    some ((1 : Int32), rr1.2.1, rr1.2.2.1, rr1.2.2.2.1, rr1.2.2.2.2.1, rr1.2.2.2.2.2.1, rr1.2.2.2.2.2.2.1, rr1.2.2.2.2.2.2.2.1, rr1.2.2.2.2.2.2.2.2.1, rr1.2.2.2.2.2.2.2.2.2, u4)
set_option maxHeartbeats 4000000 in
theorem m14_readInto (l : Launch) (G : gG) (K : gK) (I : gI) (J : gJ) (X : gX) (A : gI) (B : gJ) (Q : gX) (o : Nat) (shM : Sh K X o 11 rows11) (p1 : Int32) (p2 : Int32) (p3 : Int32) (i_size : Int32) (i_limit : Int32) (i_to : Int32) (i_from : Int32) (i_kind : Int32) (i_number : Int32) (i_sign : Int32) (i_fault : Int32) (i_at : Int32) (i_told : Int32) (j_word : Int64) (a_tape : Nat → Int32) (a_read : Nat → Int32) (e_i_size : I 1103 o = i_size) (e_i_limit : I 1104 o = i_limit) (e_i_to : I 1105 o = i_to) (e_i_from : I 1106 o = i_from) (e_i_kind : I 1107 o = i_kind) (e_i_number : I 1108 o = i_number) (e_i_sign : I 1109 o = i_sign) (e_i_fault : I 1110 o = i_fault) (e_i_at : I 1111 o = i_at) (e_i_told : I 1113 o = i_told) (e_j_word : J 1112 o = j_word) (e_a_tape : A (o + 1) = a_tape) (e_a_read : A (o + 3) = a_read) (out : Int32 × Int32 × Int32 × Int32 × Int32 × Int32 × Int32 × Int32 × Int32 × Int64 × (Nat → Int32)) (hf : f14_readInto p1 p2 p3 i_size i_limit i_to i_from i_kind i_number i_sign i_fault i_at i_told j_word a_tape a_read = some out) : GMet l yX14_readInto cX14_readInto 4 (some .boolean) (3) (67) G [.ref o, .int p1, .int p2, .int p3] K I J X A B Q (some (.int out.1)) K (ov I [(1105, o, out.2.1), (1106, o, out.2.2.1), (1107, o, out.2.2.2.1), (1108, o, out.2.2.2.2.1), (1109, o, out.2.2.2.2.2.1), (1110, o, out.2.2.2.2.2.2.1), (1111, o, out.2.2.2.2.2.2.2.1), (1113, o, out.2.2.2.2.2.2.2.2.1)]) (ov J [(1112, o, out.2.2.2.2.2.2.2.2.2.1)]) X (ova A [((o + 1), a_tape), ((o + 3), out.2.2.2.2.2.2.2.2.2.2)]) B Q 0 0 := by
  refine GMet.of (y := yX14_readInto) rfl (Nat.le_of_ble_eq_true rfl) rfl ?_
  intro p e s m below meth c ls hx hb hr hml hlocks hts hown hname hG hR hl
  have hown : s.vm.findClass RX14 = some m.cls := hown
  have k_a_tape : K (o + 1) = some (.inr (0, 740)) := (shM.2 0 _ rfl).1
  have k_a_read : K (o + 3) = some (.inr (0, 200)) := (shM.2 2 _ rfl).1
  have hN_A : nda [(o + 1), (o + 3)] := nd_off o [1, 3] rfl
  have hR : RS G K (ov I [(1105, o, i_to), (1106, o, i_from), (1107, o, i_kind), (1108, o, i_number), (1109, o, i_sign), (1110, o, i_fault), (1111, o, i_at), (1113, o, i_told)]) (ov J [(1112, o, j_word)]) X (ova A [((o + 1), a_tape), ((o + 3), a_read)]) B Q s.heap := hR.to (Eq.symm (ov_sc e_i_to (ov_sc e_i_from (ov_sc e_i_kind (ov_sc e_i_number (ov_sc e_i_sign (ov_sc e_i_fault (ov_sc e_i_at (ov_sc e_i_told rfl))))))))) (Eq.symm (ov_sc e_j_word rfl)) rfl (Eq.symm (ova_sc e_a_tape (ova_sc e_a_read rfl))) rfl rfl
  have hS : va_S (gA G) s.heap s.heap [] := va_S.rf
  have hend : ∀ (pc : Nat) (H : Heap) (locs : List Loc) (ls : Array Slot), decode cX14_readInto pc = .ok (.ireturn, 1) → narrow .boolean (.int out.1) = .int out.1 → RS G K (ov I [(1105, o, out.2.1), (1106, o, out.2.2.1), (1107, o, out.2.2.2.1), (1108, o, out.2.2.2.2.1), (1109, o, out.2.2.2.2.2.1), (1110, o, out.2.2.2.2.2.2.1), (1111, o, out.2.2.2.2.2.2.2.1), (1113, o, out.2.2.2.2.2.2.2.2.1)]) (ov J [(1112, o, out.2.2.2.2.2.2.2.2.2.1)]) X (ova A [((o + 1), a_tape), ((o + 3), out.2.2.2.2.2.2.2.2.2.2)]) B Q H → va_S (gA G) s.heap H locs → W p l e ({ frames := 3, cells := 0, slots := 0, locals := 67 } : Room) s m ([.ref o, .int p1, .int p2, .int p3] : List Value).toArray below meth c H locs 0 0 (MQ below (gQ G (some (.int out.1)) K (ov I [(1105, o, out.2.1), (1106, o, out.2.2.1), (1107, o, out.2.2.2.1), (1108, o, out.2.2.2.2.1), (1109, o, out.2.2.2.2.2.1), (1110, o, out.2.2.2.2.2.2.1), (1111, o, out.2.2.2.2.2.2.2.1), (1113, o, out.2.2.2.2.2.2.2.2.1)]) (ov J [(1112, o, out.2.2.2.2.2.2.2.2.2.1)]) X (ova A [((o + 1), a_tape), ((o + 3), out.2.2.2.2.2.2.2.2.2.2)]) B Q) ([.ref o, .int p1, .int p2, .int p3] : List Value).toArray s 0 0 (gA G)) (F0 m pc ls [.int out.1]) := fun pc H locs ls hd hz hR hS => g_zret hx hb hr hlocks hz hG hR hS rfl hd
  generalize MQ below (gQ G (some (.int out.1)) K (ov I [(1105, o, out.2.1), (1106, o, out.2.2.1), (1107, o, out.2.2.2.1), (1108, o, out.2.2.2.2.1), (1109, o, out.2.2.2.2.2.1), (1110, o, out.2.2.2.2.2.2.1), (1111, o, out.2.2.2.2.2.2.2.1), (1113, o, out.2.2.2.2.2.2.2.2.1)]) (ov J [(1112, o, out.2.2.2.2.2.2.2.2.2.1)]) X (ova A [((o + 1), a_tape), ((o + 3), out.2.2.2.2.2.2.2.2.2.2)]) B Q) ([.ref o, .int p1, .int p2, .int p3] : List Value).toArray s 0 0 (gA G) = Z at hend ⊢
  generalize ([.ref o, .int p1, .int p2, .int p3] : List Value).toArray = args at hts hend ⊢
  unfold f14_readInto at hf
  refine lv_aload_n hx hb dX14_readInto_0 rfl (lv_at hl 0 rfl) ?_
  refine lv_iload_n hx hb dX14_readInto_1 rfl (lv_at hl 2 rfl) ?_
  refine lv_iload_n hx hb dX14_readInto_2 rfl (lv_at hl 3 rfl) ?_
  obtain ⟨rr1, hrr1, hf⟩ := bind_s hf
  refine g0_cV (rm := (2, 45)) (As := [.int p2, .int p3]) (rest := []) ⟨hx, hb, hml, hown, hts⟩ hG hR hS (m14_readNumber l G K (ov I [(1105, o, i_to), (1106, o, i_from), (1107, o, i_kind), (1108, o, i_number), (1109, o, i_sign), (1110, o, i_fault), (1111, o, i_at), (1113, o, i_told)]) (ov J [(1112, o, j_word)]) X (ova A [((o + 1), a_tape), ((o + 3), a_read)]) B Q o shM p2 p3 i_size i_limit i_to i_from i_kind i_number i_sign i_fault i_at i_told j_word a_tape ((congrFun (ov_no rfl) _).trans e_i_size) ((congrFun (ov_no rfl) _).trans e_i_limit) (ov_get 0 rfl rfl) (ov_get 1 rfl rfl) (ov_get 2 rfl rfl) (ov_get 3 rfl rfl) (ov_get 4 rfl rfl) (ov_get 5 rfl rfl) (ov_get 6 rfl rfl) (ov_get 7 rfl rfl) (ov_get 0 rfl rfl) (ova_get 0 hN_A rfl) rr1 hrr1) (cwV 2 hts gi_X14_251 rfl rfl rfl hd_X14_readNumber ⟨Nat.le_of_ble_eq_true rfl, Nat.le_of_ble_eq_true rfl⟩) shM.1 rfl rfl hl.1 (Nat.le_of_ble_eq_true rfl) dX14_readInto_3 ⟨Nat.le_refl _, Nat.le_refl _⟩ rfl (fun H locs hR hS => ?_)
  have hR : RS G K (ov I [(1105, o, rr1.2.1), (1106, o, rr1.2.2.1), (1107, o, rr1.2.2.2.1), (1108, o, rr1.2.2.2.2.1), (1109, o, rr1.2.2.2.2.2.1), (1110, o, rr1.2.2.2.2.2.2.1), (1111, o, rr1.2.2.2.2.2.2.2.1), (1113, o, rr1.2.2.2.2.2.2.2.2.1)]) (ov J [(1112, o, rr1.2.2.2.2.2.2.2.2.2)]) X (ova A [((o + 1), a_tape), ((o + 3), a_read)]) B Q H := hR.to (ov_merge (l := [(1105, o, i_to), (1106, o, i_from), (1107, o, i_kind), (1108, o, i_number), (1109, o, i_sign), (1110, o, i_fault), (1111, o, i_at), (1113, o, i_told)]) rfl [0, 1, 2, 3, 4, 5, 6, 7] [(1105, o, rr1.2.1), (1106, o, rr1.2.2.1), (1107, o, rr1.2.2.2.1), (1108, o, rr1.2.2.2.2.1), (1109, o, rr1.2.2.2.2.2.1), (1110, o, rr1.2.2.2.2.2.2.1), (1111, o, rr1.2.2.2.2.2.2.2.1), (1113, o, rr1.2.2.2.2.2.2.2.2.1)] rfl rfl) (ov_merge (l := [(1112, o, j_word)]) rfl [0] [(1112, o, rr1.2.2.2.2.2.2.2.2.2)] rfl rfl) rfl rfl rfl rfl
  refine lv_if_ne (tgt := 11) hx hb dX14_readInto_6 (by decide) (fun c2 => ?_) (fun c2 => ?_)
  · have hf := ite_f c2 hf
    refine lv_aload_n hx hb dX14_readInto_11 rfl (lv_at hl 0 rfl) ?_
    refine g_getr (b := (o + 3)) hx hb hts hown hG hR gFx_X14_16_11 shM.1 ((shM.2 2 _ rfl).2) dX14_readInto_12 ?_
    refine lv_iload_n hx hb dX14_readInto_15 rfl (lv_at hl 1 rfl) ?_
    refine lv_aload_n hx hb dX14_readInto_16 rfl (lv_at hl 0 rfl) ?_
    refine n_geti (v := rr1.2.2.2.2.2.2.2.2.1) hx hb hts hown hG hR gFi_X14_223_11 shM.1 (ov_get 7 rfl rfl) dX14_readInto_17 ?_
    obtain ⟨c3, hf⟩ := gd_some hf
    obtain ⟨u4, eu4, hf⟩ := lt_some hf
    refine n_iast (la' := [((o + 1), a_tape), ((o + 3), u4)]) hx hb hG hR hS k_a_read c3 hN_A 1 rfl eu4 rfl dX14_readInto_20 (fun H locs hR hS => ?_)
    refine lv_iconst (v := 1) hx hb dX14_readInto_21 li_1 ?_
    obtain rfl := some_i hf
    exact hend _ _ _ _ dX14_readInto_22 nz_1 hR hS
  · have hf := ite_t c2 hf
    refine lv_iconst (v := 0) hx hb dX14_readInto_9 li_0 ?_
    obtain rfl := some_i hf
    exact hend _ _ _ _ dX14_readInto_10 nz_0 hR hS
noncomputable def f14_readEnd (i_size : Int32) (i_limit : Int32) (i_to : Int32) (i_from : Int32) (i_kind : Int32) (i_number : Int32) (i_sign : Int32) (i_fault : Int32) (i_at : Int32) (j_word : Int64) (a_tape : Nat → Int32) : Option (Int32 × Int32 × Int32 × Int32 × Int32 × Int32 × Int32 × Int32 × Int64) :=
  (f14_isSign (59 : Int32) i_kind i_sign).bind fun rr1 =>
  if rr1 = 0 then
    (f14_bad (1 : Int32) i_from i_kind i_fault i_at).bind fun rr4 =>
    gd (rr4.1 &&& 1 = rr4.1) <|
    some (rr4.1, i_to, i_from, i_kind, i_number, i_sign, rr4.2.1, rr4.2.2, j_word)
  else
    (f14_go i_size i_limit i_to i_from i_kind i_number i_sign j_word a_tape).bind fun rr3 =>
    some ((1 : Int32), rr3.1, rr3.2.1, rr3.2.2.1, rr3.2.2.2.1, rr3.2.2.2.2.1, i_fault, i_at, rr3.2.2.2.2.2)
set_option maxHeartbeats 4000000 in
theorem m14_readEnd (l : Launch) (G : gG) (K : gK) (I : gI) (J : gJ) (X : gX) (A : gI) (B : gJ) (Q : gX) (o : Nat) (shM : Sh K X o 11 rows11)  (i_size : Int32) (i_limit : Int32) (i_to : Int32) (i_from : Int32) (i_kind : Int32) (i_number : Int32) (i_sign : Int32) (i_fault : Int32) (i_at : Int32) (j_word : Int64) (a_tape : Nat → Int32) (e_i_size : I 1103 o = i_size) (e_i_limit : I 1104 o = i_limit) (e_i_to : I 1105 o = i_to) (e_i_from : I 1106 o = i_from) (e_i_kind : I 1107 o = i_kind) (e_i_number : I 1108 o = i_number) (e_i_sign : I 1109 o = i_sign) (e_i_fault : I 1110 o = i_fault) (e_i_at : I 1111 o = i_at) (e_j_word : J 1112 o = j_word) (e_a_tape : A (o + 1) = a_tape) (out : Int32 × Int32 × Int32 × Int32 × Int32 × Int32 × Int32 × Int32 × Int64) (hf : f14_readEnd i_size i_limit i_to i_from i_kind i_number i_sign i_fault i_at j_word a_tape = some out) : GMet l yX14_readEnd cX14_readEnd 1 (some .boolean) (2) (45) G [.ref o] K I J X A B Q (some (.int out.1)) K (ov I [(1105, o, out.2.1), (1106, o, out.2.2.1), (1107, o, out.2.2.2.1), (1108, o, out.2.2.2.2.1), (1109, o, out.2.2.2.2.2.1), (1110, o, out.2.2.2.2.2.2.1), (1111, o, out.2.2.2.2.2.2.2.1)]) (ov J [(1112, o, out.2.2.2.2.2.2.2.2)]) X A B Q 0 0 := by
  refine GMet.of (y := yX14_readEnd) rfl (Nat.le_of_ble_eq_true rfl) rfl ?_
  intro p e s m below meth c ls hx hb hr hml hlocks hts hown hname hG hR hl
  have hown : s.vm.findClass RX14 = some m.cls := hown
  have k_a_tape : K (o + 1) = some (.inr (0, 740)) := (shM.2 0 _ rfl).1
  have hR : RS G K (ov I [(1105, o, i_to), (1106, o, i_from), (1107, o, i_kind), (1108, o, i_number), (1109, o, i_sign), (1110, o, i_fault), (1111, o, i_at)]) (ov J [(1112, o, j_word)]) X A B Q s.heap := hR.to (Eq.symm (ov_sc e_i_to (ov_sc e_i_from (ov_sc e_i_kind (ov_sc e_i_number (ov_sc e_i_sign (ov_sc e_i_fault (ov_sc e_i_at rfl)))))))) (Eq.symm (ov_sc e_j_word rfl)) rfl rfl rfl rfl
  have hS : va_S (gA G) s.heap s.heap [] := va_S.rf
  have hend : ∀ (pc : Nat) (H : Heap) (locs : List Loc) (ls : Array Slot), decode cX14_readEnd pc = .ok (.ireturn, 1) → narrow .boolean (.int out.1) = .int out.1 → RS G K (ov I [(1105, o, out.2.1), (1106, o, out.2.2.1), (1107, o, out.2.2.2.1), (1108, o, out.2.2.2.2.1), (1109, o, out.2.2.2.2.2.1), (1110, o, out.2.2.2.2.2.2.1), (1111, o, out.2.2.2.2.2.2.2.1)]) (ov J [(1112, o, out.2.2.2.2.2.2.2.2)]) X A B Q H → va_S (gA G) s.heap H locs → W p l e ({ frames := 2, cells := 0, slots := 0, locals := 45 } : Room) s m ([.ref o] : List Value).toArray below meth c H locs 0 0 (MQ below (gQ G (some (.int out.1)) K (ov I [(1105, o, out.2.1), (1106, o, out.2.2.1), (1107, o, out.2.2.2.1), (1108, o, out.2.2.2.2.1), (1109, o, out.2.2.2.2.2.1), (1110, o, out.2.2.2.2.2.2.1), (1111, o, out.2.2.2.2.2.2.2.1)]) (ov J [(1112, o, out.2.2.2.2.2.2.2.2)]) X A B Q) ([.ref o] : List Value).toArray s 0 0 (gA G)) (F0 m pc ls [.int out.1]) := fun pc H locs ls hd hz hR hS => g_zret hx hb hr hlocks hz hG hR hS rfl hd
  generalize MQ below (gQ G (some (.int out.1)) K (ov I [(1105, o, out.2.1), (1106, o, out.2.2.1), (1107, o, out.2.2.2.1), (1108, o, out.2.2.2.2.1), (1109, o, out.2.2.2.2.2.1), (1110, o, out.2.2.2.2.2.2.1), (1111, o, out.2.2.2.2.2.2.2.1)]) (ov J [(1112, o, out.2.2.2.2.2.2.2.2)]) X A B Q) ([.ref o] : List Value).toArray s 0 0 (gA G) = Z at hend ⊢
  generalize ([.ref o] : List Value).toArray = args at hts hend ⊢
  unfold f14_readEnd at hf
  refine lv_aload_n hx hb dX14_readEnd_0 rfl (lv_at hl 0 rfl) ?_
  refine lv_bipush (v := 59) hx hb dX14_readEnd_1 lb_59 ?_
  obtain ⟨rr1, hrr1, hf⟩ := bind_s hf
  refine g0_cV (rm := (0, 0)) (As := [.int (59 : Int32)]) (rest := []) ⟨hx, hb, hml, hown, hts⟩ hG hR hS (m14_isSign l G K (ov I [(1105, o, i_to), (1106, o, i_from), (1107, o, i_kind), (1108, o, i_number), (1109, o, i_sign), (1110, o, i_fault), (1111, o, i_at)]) (ov J [(1112, o, j_word)]) X A B Q o shM (59 : Int32) i_kind i_sign (ov_get 2 rfl rfl) (ov_get 4 rfl rfl) rr1 hrr1) (cwV 1 hts gi_X14_229 rfl rfl rfl hd_X14_isSign ⟨Nat.le_of_ble_eq_true rfl, Nat.le_of_ble_eq_true rfl⟩) shM.1 rfl rfl hl.1 (Nat.le_of_ble_eq_true rfl) dX14_readEnd_3 ⟨Nat.le_refl _, Nat.le_refl _⟩ rfl (fun H locs hR hS => ?_)
  refine lv_if_ne (tgt := 15) hx hb dX14_readEnd_6 (by decide) (fun c2 => ?_) (fun c2 => ?_)
  · have hf := ite_f c2 hf
    refine lv_aload_n hx hb dX14_readEnd_15 rfl (lv_at hl 0 rfl) ?_
    obtain ⟨rr3, hrr3, hf⟩ := bind_s hf
    refine g0_cVv (rm := (1, 21)) (As := []) (rest := []) ⟨hx, hb, hml, hown, hts⟩ hG hR hS (m14_go l G K (ov I [(1105, o, i_to), (1106, o, i_from), (1107, o, i_kind), (1108, o, i_number), (1109, o, i_sign), (1110, o, i_fault), (1111, o, i_at)]) (ov J [(1112, o, j_word)]) X A B Q o shM i_size i_limit i_to i_from i_kind i_number i_sign j_word a_tape ((congrFun (ov_no rfl) _).trans e_i_size) ((congrFun (ov_no rfl) _).trans e_i_limit) (ov_get 0 rfl rfl) (ov_get 1 rfl rfl) (ov_get 2 rfl rfl) (ov_get 3 rfl rfl) (ov_get 4 rfl rfl) (ov_get 0 rfl rfl) e_a_tape rr3 hrr3) (cwV 0 hts gi_X14_226 rfl rfl rfl hd_X14_go ⟨Nat.le_of_ble_eq_true rfl, Nat.le_of_ble_eq_true rfl⟩) shM.1 rfl rfl hl.1 (Nat.le_of_ble_eq_true rfl) dX14_readEnd_16 ⟨Nat.le_refl _, Nat.le_refl _⟩ rfl (fun H locs hR hS => ?_)
    have hR : RS G K (ov I [(1105, o, rr3.1), (1106, o, rr3.2.1), (1107, o, rr3.2.2.1), (1108, o, rr3.2.2.2.1), (1109, o, rr3.2.2.2.2.1), (1110, o, i_fault), (1111, o, i_at)]) (ov J [(1112, o, rr3.2.2.2.2.2)]) X A B Q H := hR.to (ov_merge (l := [(1105, o, i_to), (1106, o, i_from), (1107, o, i_kind), (1108, o, i_number), (1109, o, i_sign), (1110, o, i_fault), (1111, o, i_at)]) rfl [0, 1, 2, 3, 4] [(1105, o, rr3.1), (1106, o, rr3.2.1), (1107, o, rr3.2.2.1), (1108, o, rr3.2.2.2.1), (1109, o, rr3.2.2.2.2.1)] rfl rfl) (ov_merge (l := [(1112, o, j_word)]) rfl [0] [(1112, o, rr3.2.2.2.2.2)] rfl rfl) rfl rfl rfl rfl
    refine lv_iconst (v := 1) hx hb dX14_readEnd_19 li_1 ?_
    obtain rfl := some_i hf
    exact hend _ _ _ _ dX14_readEnd_20 nz_1 hR hS
  · have hf := ite_t c2 hf
    refine lv_aload_n hx hb dX14_readEnd_9 rfl (lv_at hl 0 rfl) ?_
    refine lv_iconst (v := 1) hx hb dX14_readEnd_10 li_1 ?_
    obtain ⟨rr4, hrr4, hf⟩ := bind_s hf
    refine g0_cV (rm := (0, 0)) (As := [.int (1 : Int32)]) (rest := []) ⟨hx, hb, hml, hown, hts⟩ hG hR hS (m14_bad l G K (ov I [(1105, o, i_to), (1106, o, i_from), (1107, o, i_kind), (1108, o, i_number), (1109, o, i_sign), (1110, o, i_fault), (1111, o, i_at)]) (ov J [(1112, o, j_word)]) X A B Q o shM (1 : Int32) i_from i_kind i_fault i_at (ov_get 1 rfl rfl) (ov_get 2 rfl rfl) (ov_get 5 rfl rfl) (ov_get 6 rfl rfl) rr4 hrr4) (cwV 1 hts gi_X14_216 rfl rfl rfl hd_X14_bad ⟨Nat.le_of_ble_eq_true rfl, Nat.le_of_ble_eq_true rfl⟩) shM.1 rfl rfl hl.1 (Nat.le_of_ble_eq_true rfl) dX14_readEnd_11 ⟨Nat.le_refl _, Nat.le_refl _⟩ rfl (fun H locs hR hS => ?_)
    have hR : RS G K (ov I [(1105, o, i_to), (1106, o, i_from), (1107, o, i_kind), (1108, o, i_number), (1109, o, i_sign), (1110, o, rr4.2.1), (1111, o, rr4.2.2)]) (ov J [(1112, o, j_word)]) X A B Q H := hR.to (ov_merge (l := [(1105, o, i_to), (1106, o, i_from), (1107, o, i_kind), (1108, o, i_number), (1109, o, i_sign), (1110, o, i_fault), (1111, o, i_at)]) rfl [5, 6] [(1110, o, rr4.2.1), (1111, o, rr4.2.2)] rfl rfl) rfl rfl rfl rfl rfl
    obtain ⟨hz9, hf⟩ := gd_some hf
    obtain rfl := some_i hf
    exact hend _ _ _ _ dX14_readEnd_14 (congrArg Value.int hz9) hR hS
noncomputable def f14_man_j25 (rr1 : Int32 × (Nat → Int32)) (j25_i_thrown : Int32) : Option (Int32 × Int32 × Int32 × (Nat → Int32)) :=
  (f14_refuse j25_i_thrown).bind fun rr2 =>
  some (rr2.1, rr2.2, rr1.1, rr1.2)

noncomputable def f14_man (p1 : Int32) (p2 : Int32) (i_thrown : Int32) (i_isBegun : Int32) (a_now : Nat → Int32) : Option (Int32 × Int32 × Int32 × (Nat → Int32)) :=
  (f14_lay i_isBegun a_now).bind fun rr1 =>
  if p1 < 0 then
    f14_man_j25 rr1 i_thrown
  else
    (f14_men rr1.2).bind fun rr4 =>
    if rr4 ≤ p1 then
      f14_man_j25 rr1 i_thrown
    else
      (f14_isIn p2 (0 : Int32) (2 : Int32)).bind fun rr6 =>
      if rr6 = 0 then
        f14_man_j25 rr1 i_thrown
      else
        (f14_manOf p1 p2 rr1.2).bind fun rr8 =>
        some (rr8, (0 : Int32), rr1.1, rr1.2)
set_option maxHeartbeats 4000000 in
theorem m14_man (l : Launch) (G : gG) (K : gK) (I : gI) (J : gJ) (X : gX) (A : gI) (B : gJ) (Q : gX) (o : Nat) (shM : Sh K X o 11 rows11) (p1 : Int32) (p2 : Int32) (i_thrown : Int32) (i_isBegun : Int32) (a_now : Nat → Int32) (e_i_thrown : I 1100 o = i_thrown) (e_i_isBegun : I 1122 o = i_isBegun) (e_a_now : A (o + 2) = a_now) (out : Int32 × Int32 × Int32 × (Nat → Int32)) (hf : f14_man p1 p2 i_thrown i_isBegun a_now = some out) : GMet l yX14_man cX14_man 3 (some .int) (2) (41) G [.ref o, .int p1, .int p2] K I J X A B Q (some (.int out.1)) K (ov I [(1100, o, out.2.1), (1122, o, out.2.2.1)]) J X (ova A [((o + 2), out.2.2.2)]) B Q 0 0 := by
  refine GMet.of (y := yX14_man) rfl (Nat.le_of_ble_eq_true rfl) rfl ?_
  intro p e s m below meth c ls hx hb hr hml hlocks hts hown hname hG hR hl
  have hown : s.vm.findClass RX14 = some m.cls := hown
  have k_a_now : K (o + 2) = some (.inr (0, 800)) := (shM.2 1 _ rfl).1
  have hN_A : nda [(o + 2)] := nd_off o [2] rfl
  have hR : RS G K (ov I [(1100, o, i_thrown), (1122, o, i_isBegun)]) J X (ova A [((o + 2), a_now)]) B Q s.heap := hR.to (Eq.symm (ov_sc e_i_thrown (ov_sc e_i_isBegun rfl))) rfl rfl (Eq.symm (ova_sc e_a_now rfl)) rfl rfl
  have hS : va_S (gA G) s.heap s.heap [] := va_S.rf
  have hend : ∀ (pc : Nat) (H : Heap) (locs : List Loc) (ls : Array Slot), decode cX14_man pc = .ok (.ireturn, 1) → RS G K (ov I [(1100, o, out.2.1), (1122, o, out.2.2.1)]) J X (ova A [((o + 2), out.2.2.2)]) B Q H → va_S (gA G) s.heap H locs → W p l e ({ frames := 2, cells := 0, slots := 0, locals := 41 } : Room) s m ([.ref o, .int p1, .int p2] : List Value).toArray below meth c H locs 0 0 (MQ below (gQ G (some (.int out.1)) K (ov I [(1100, o, out.2.1), (1122, o, out.2.2.1)]) J X (ova A [((o + 2), out.2.2.2)]) B Q) ([.ref o, .int p1, .int p2] : List Value).toArray s 0 0 (gA G)) (F0 m pc ls [.int out.1]) := fun pc H locs ls hd hR hS => g_iret hx hb hr hlocks hG hR hS rfl hd
  generalize MQ below (gQ G (some (.int out.1)) K (ov I [(1100, o, out.2.1), (1122, o, out.2.2.1)]) J X (ova A [((o + 2), out.2.2.2)]) B Q) ([.ref o, .int p1, .int p2] : List Value).toArray s 0 0 (gA G) = Z at hend ⊢
  generalize ([.ref o, .int p1, .int p2] : List Value).toArray = args at hts hend ⊢
  unfold f14_man at hf
  refine lv_aload_n hx hb dX14_man_0 rfl (lv_at hl 0 rfl) ?_
  obtain ⟨rr1, hrr1, hf⟩ := bind_s hf
  refine g0_cVv (rm := (1, 21)) (As := []) (rest := []) ⟨hx, hb, hml, hown, hts⟩ hG hR hS (m14_lay l G K (ov I [(1100, o, i_thrown), (1122, o, i_isBegun)]) J X (ova A [((o + 2), a_now)]) B Q o shM i_isBegun a_now (ov_get 1 rfl rfl) (ova_get 0 hN_A rfl) rr1 hrr1) (cwV 0 hts gi_X14_232 rfl rfl rfl hd_X14_lay ⟨Nat.le_of_ble_eq_true rfl, Nat.le_of_ble_eq_true rfl⟩) shM.1 rfl rfl hl.1 (Nat.le_of_ble_eq_true rfl) dX14_man_1 ⟨Nat.le_refl _, Nat.le_refl _⟩ rfl (fun H locs hR hS => ?_)
  have hR : RS G K (ov I [(1100, o, i_thrown), (1122, o, rr1.1)]) J X (ova A [((o + 2), rr1.2)]) B Q H := hR.to (ov_merge (l := [(1100, o, i_thrown), (1122, o, i_isBegun)]) rfl [1] [(1122, o, rr1.1)] rfl rfl) rfl rfl (ova_merge (l := [((o + 2), a_now)]) hN_A [0] [((o + 2), rr1.2)] rfl rfl) rfl rfl
  refine lv_iload_n hx hb dX14_man_4 rfl (lv_at hl 1 rfl) ?_
  have hj25 : ∀ (j25_i_thrown : Int32), f14_man_j25 rr1 j25_i_thrown = some out → ∀ (H : Heap) (locs : List Loc) (ls : Array Slot), RS G K (ov I [(1100, o, j25_i_thrown), (1122, o, rr1.1)]) J X (ova A [((o + 2), rr1.2)]) B Q H → va_S (gA G) s.heap H locs → lv_has ls 3 [(0, .ref o)] → W p l e ({ frames := 2, cells := 0, slots := 0, locals := 41 } : Room) s m args below meth c H locs 0 0 Z (F0 m 25 ls []) := by
    intro j25_i_thrown hf H locs ls hR hS hl
    unfold f14_man_j25 at hf
    refine lv_aload_n hx hb dX14_man_25 rfl (lv_at hl 0 rfl) ?_
    obtain ⟨rr2, hrr2, hf⟩ := bind_s hf
    refine g0_cV (rm := (0, 0)) (As := []) (rest := []) ⟨hx, hb, hml, hown, hts⟩ hG hR hS (m14_refuse l G K (ov I [(1100, o, j25_i_thrown), (1122, o, rr1.1)]) J X (ova A [((o + 2), rr1.2)]) B Q o shM j25_i_thrown (ov_get 0 rfl rfl) rr2 hrr2) (cwV 0 hts gi_X14_291 rfl rfl rfl hd_X14_refuse ⟨Nat.le_of_ble_eq_true rfl, Nat.le_of_ble_eq_true rfl⟩) shM.1 rfl rfl hl.1 (Nat.le_of_ble_eq_true rfl) dX14_man_26 ⟨Nat.le_refl _, Nat.le_refl _⟩ rfl (fun H locs hR hS => ?_)
    have hR : RS G K (ov I [(1100, o, rr2.2), (1122, o, rr1.1)]) J X (ova A [((o + 2), rr1.2)]) B Q H := hR.to (ov_merge (l := [(1100, o, j25_i_thrown), (1122, o, rr1.1)]) rfl [0] [(1100, o, rr2.2)] rfl rfl) rfl rfl rfl rfl rfl
    obtain rfl := some_i hf
    exact hend _ _ _ _ dX14_man_29 hR hS
  refine lv_if_lt (tgt := 25) hx hb dX14_man_5 (by decide) (fun c3 => ?_) (fun c3 => ?_)
  · have hf := ite_t c3 hf
    exact hj25 i_thrown hf _ _ _ hR hS (lv_sub hl [0] rfl)
  · have hf := ite_f c3 hf
    refine lv_iload_n hx hb dX14_man_8 rfl (lv_at hl 1 rfl) ?_
    refine lv_aload_n hx hb dX14_man_9 rfl (lv_at hl 0 rfl) ?_
    obtain ⟨rr4, hrr4, hf⟩ := bind_s hf
    refine g0_cV (rm := (0, 0)) (As := []) (rest := [.int p1]) ⟨hx, hb, hml, hown, hts⟩ hG hR hS (m14_men l G K (ov I [(1100, o, i_thrown), (1122, o, rr1.1)]) J X (ova A [((o + 2), rr1.2)]) B Q o shM rr1.2 (ova_get 0 hN_A rfl) rr4 hrr4) (cwV 0 hts gi_X14_288 rfl rfl rfl hd_X14_men ⟨Nat.le_of_ble_eq_true rfl, Nat.le_of_ble_eq_true rfl⟩) shM.1 rfl rfl hl.1 (Nat.le_of_ble_eq_true rfl) dX14_man_10 ⟨Nat.le_refl _, Nat.le_refl _⟩ rfl (fun H locs hR hS => ?_)
    refine lv_icmp_ge (tgt := 25) hx hb dX14_man_13 (by decide) (fun c5 => ?_) (fun c5 => ?_)
    · have hf := ite_t c5 hf
      exact hj25 i_thrown hf _ _ _ hR hS (lv_sub hl [0] rfl)
    · have hf := ite_f c5 hf
      refine lv_iload_n hx hb dX14_man_16 rfl (lv_at hl 2 rfl) ?_
      refine lv_iconst (v := 0) hx hb dX14_man_17 li_0 ?_
      refine lv_iconst (v := 2) hx hb dX14_man_18 li_2 ?_
      obtain ⟨rr6, hrr6, hf⟩ := bind_s hf
      refine g0_cS (rm := (0, 0)) (As := [.int p2, .int (0 : Int32), .int (2 : Int32)]) (rest := []) ⟨hx, hb, hml, hown, hts⟩ hG hR hS (m14_isIn l G K (ov I [(1100, o, i_thrown), (1122, o, rr1.1)]) J X (ova A [((o + 2), rr1.2)]) B Q p2 (0 : Int32) (2 : Int32) rr6 hrr6) (cwS 3 hts gi_X14_219 rfl rfl rfl hd_X14_isIn ⟨Nat.le_of_ble_eq_true rfl, Nat.le_of_ble_eq_true rfl⟩) rfl hl.1 (Nat.le_of_ble_eq_true rfl) dX14_man_19 ⟨Nat.le_refl _, Nat.le_refl _⟩ rfl (fun H locs hR hS => ?_)
      refine lv_if_ne (tgt := 30) hx hb dX14_man_22 (by decide) (fun c7 => ?_) (fun c7 => ?_)
      · have hf := ite_f c7 hf
        refine lv_aload_n hx hb dX14_man_30 rfl (lv_at hl 0 rfl) ?_
        refine lv_iconst (v := 0) hx hb dX14_man_31 li_0 ?_
        refine n_puti (li' := [(1100, o, (0 : Int32)), (1122, o, rr1.1)]) hx hb hts hown hG hR hS gPi_X14_148_11 shM.1 0 rfl rfl rfl dX14_man_32 (fun H locs hR hS => ?_)
        refine lv_aload_n hx hb dX14_man_35 rfl (lv_at hl 0 rfl) ?_
        refine lv_iload_n hx hb dX14_man_36 rfl (lv_at hl 1 rfl) ?_
        refine lv_iload_n hx hb dX14_man_37 rfl (lv_at hl 2 rfl) ?_
        obtain ⟨rr8, hrr8, hf⟩ := bind_s hf
        refine g0_cV (rm := (0, 0)) (As := [.int p1, .int p2]) (rest := []) ⟨hx, hb, hml, hown, hts⟩ hG hR hS (m14_manOf l G K (ov I [(1100, o, (0 : Int32)), (1122, o, rr1.1)]) J X (ova A [((o + 2), rr1.2)]) B Q o shM p1 p2 rr1.2 (ova_get 0 hN_A rfl) rr8 hrr8) (cwV 2 hts gi_X14_294 rfl rfl rfl hd_X14_manOf ⟨Nat.le_of_ble_eq_true rfl, Nat.le_of_ble_eq_true rfl⟩) shM.1 rfl rfl hl.1 (Nat.le_of_ble_eq_true rfl) dX14_man_38 ⟨Nat.le_refl _, Nat.le_refl _⟩ rfl (fun H locs hR hS => ?_)
        obtain rfl := some_i hf
        exact hend _ _ _ _ dX14_man_41 hR hS
      · have hf := ite_t c7 hf
        exact hj25 i_thrown hf _ _ _ hR hS (lv_sub hl [0] rfl)
noncomputable def f14_cell_j40 (rr1 : Int32 × (Nat → Int32)) (j40_i_thrown : Int32) : Option (Int32 × Int32 × Int32 × (Nat → Int32)) :=
  (f14_refuse j40_i_thrown).bind fun rr2 =>
  some (rr2.1, rr2.2, rr1.1, rr1.2)

noncomputable def f14_cell_j66 (p1 : Int32) (p2 : Int32) (rr1 : Int32 × (Nat → Int32)) (j66_s0 : Int32) : Option (Int32 × Int32 × Int32 × (Nat → Int32)) :=
  (f14_columns rr1.2).bind fun rr12 =>
  lt (rr12 * p2) fun v13 =>
  lt (j66_s0 + v13) fun v14 =>
  lt (v14 + p1) fun v15 =>
  gd (inb v15 800) <|
  lt (rr1.2 v15.toNatClampNeg) fun v17 =>
  some (v17, (0 : Int32), rr1.1, rr1.2)

noncomputable def f14_cell (p1 : Int32) (p2 : Int32) (p3 : Int32) (i_thrown : Int32) (i_isBegun : Int32) (a_now : Nat → Int32) : Option (Int32 × Int32 × Int32 × (Nat → Int32)) :=
  (f14_lay i_isBegun a_now).bind fun rr1 =>
  if p1 < 0 then
    f14_cell_j40 rr1 i_thrown
  else
    (f14_columns rr1.2).bind fun rr4 =>
    if rr4 ≤ p1 then
      f14_cell_j40 rr1 i_thrown
    else
      if p2 < 0 then
        f14_cell_j40 rr1 i_thrown
      else
        gd (inb (10 : Int32) 800) <|
        lt (rr1.2 (10 : Int32).toNatClampNeg) fun v8 =>
        if v8 ≤ p2 then
          f14_cell_j40 rr1 i_thrown
        else
          (f14_isIn p3 (0 : Int32) (1 : Int32)).bind fun rr10 =>
          if rr10 = 0 then
            f14_cell_j40 rr1 i_thrown
          else
            if p3 = 0 then
              f14_cell_j66 p1 p2 rr1 (60 : Int32)
            else
              f14_cell_j66 p1 p2 rr1 (130 : Int32)
set_option maxHeartbeats 4000000 in
theorem m14_cell (l : Launch) (G : gG) (K : gK) (I : gI) (J : gJ) (X : gX) (A : gI) (B : gJ) (Q : gX) (o : Nat) (shM : Sh K X o 11 rows11) (p1 : Int32) (p2 : Int32) (p3 : Int32) (i_thrown : Int32) (i_isBegun : Int32) (a_now : Nat → Int32) (e_i_thrown : I 1100 o = i_thrown) (e_i_isBegun : I 1122 o = i_isBegun) (e_a_now : A (o + 2) = a_now) (out : Int32 × Int32 × Int32 × (Nat → Int32)) (hf : f14_cell p1 p2 p3 i_thrown i_isBegun a_now = some out) : GMet l yX14_cell cX14_cell 4 (some .int) (2) (41) G [.ref o, .int p1, .int p2, .int p3] K I J X A B Q (some (.int out.1)) K (ov I [(1100, o, out.2.1), (1122, o, out.2.2.1)]) J X (ova A [((o + 2), out.2.2.2)]) B Q 0 0 := by
  refine GMet.of (y := yX14_cell) rfl (Nat.le_of_ble_eq_true rfl) rfl ?_
  intro p e s m below meth c ls hx hb hr hml hlocks hts hown hname hG hR hl
  have hown : s.vm.findClass RX14 = some m.cls := hown
  have k_a_now : K (o + 2) = some (.inr (0, 800)) := (shM.2 1 _ rfl).1
  have hN_A : nda [(o + 2)] := nd_off o [2] rfl
  have hR : RS G K (ov I [(1100, o, i_thrown), (1122, o, i_isBegun)]) J X (ova A [((o + 2), a_now)]) B Q s.heap := hR.to (Eq.symm (ov_sc e_i_thrown (ov_sc e_i_isBegun rfl))) rfl rfl (Eq.symm (ova_sc e_a_now rfl)) rfl rfl
  have hS : va_S (gA G) s.heap s.heap [] := va_S.rf
  have hend : ∀ (pc : Nat) (H : Heap) (locs : List Loc) (ls : Array Slot), decode cX14_cell pc = .ok (.ireturn, 1) → RS G K (ov I [(1100, o, out.2.1), (1122, o, out.2.2.1)]) J X (ova A [((o + 2), out.2.2.2)]) B Q H → va_S (gA G) s.heap H locs → W p l e ({ frames := 2, cells := 0, slots := 0, locals := 41 } : Room) s m ([.ref o, .int p1, .int p2, .int p3] : List Value).toArray below meth c H locs 0 0 (MQ below (gQ G (some (.int out.1)) K (ov I [(1100, o, out.2.1), (1122, o, out.2.2.1)]) J X (ova A [((o + 2), out.2.2.2)]) B Q) ([.ref o, .int p1, .int p2, .int p3] : List Value).toArray s 0 0 (gA G)) (F0 m pc ls [.int out.1]) := fun pc H locs ls hd hR hS => g_iret hx hb hr hlocks hG hR hS rfl hd
  generalize MQ below (gQ G (some (.int out.1)) K (ov I [(1100, o, out.2.1), (1122, o, out.2.2.1)]) J X (ova A [((o + 2), out.2.2.2)]) B Q) ([.ref o, .int p1, .int p2, .int p3] : List Value).toArray s 0 0 (gA G) = Z at hend ⊢
  generalize ([.ref o, .int p1, .int p2, .int p3] : List Value).toArray = args at hts hend ⊢
  unfold f14_cell at hf
  refine lv_aload_n hx hb dX14_cell_0 rfl (lv_at hl 0 rfl) ?_
  obtain ⟨rr1, hrr1, hf⟩ := bind_s hf
  refine g0_cVv (rm := (1, 21)) (As := []) (rest := []) ⟨hx, hb, hml, hown, hts⟩ hG hR hS (m14_lay l G K (ov I [(1100, o, i_thrown), (1122, o, i_isBegun)]) J X (ova A [((o + 2), a_now)]) B Q o shM i_isBegun a_now (ov_get 1 rfl rfl) (ova_get 0 hN_A rfl) rr1 hrr1) (cwV 0 hts gi_X14_232 rfl rfl rfl hd_X14_lay ⟨Nat.le_of_ble_eq_true rfl, Nat.le_of_ble_eq_true rfl⟩) shM.1 rfl rfl hl.1 (Nat.le_of_ble_eq_true rfl) dX14_cell_1 ⟨Nat.le_refl _, Nat.le_refl _⟩ rfl (fun H locs hR hS => ?_)
  have hR : RS G K (ov I [(1100, o, i_thrown), (1122, o, rr1.1)]) J X (ova A [((o + 2), rr1.2)]) B Q H := hR.to (ov_merge (l := [(1100, o, i_thrown), (1122, o, i_isBegun)]) rfl [1] [(1122, o, rr1.1)] rfl rfl) rfl rfl (ova_merge (l := [((o + 2), a_now)]) hN_A [0] [((o + 2), rr1.2)] rfl rfl) rfl rfl
  refine lv_iload_n hx hb dX14_cell_4 rfl (lv_at hl 1 rfl) ?_
  have hj40 : ∀ (j40_i_thrown : Int32), f14_cell_j40 rr1 j40_i_thrown = some out → ∀ (H : Heap) (locs : List Loc) (ls : Array Slot), RS G K (ov I [(1100, o, j40_i_thrown), (1122, o, rr1.1)]) J X (ova A [((o + 2), rr1.2)]) B Q H → va_S (gA G) s.heap H locs → lv_has ls 4 [(0, .ref o)] → W p l e ({ frames := 2, cells := 0, slots := 0, locals := 41 } : Room) s m args below meth c H locs 0 0 Z (F0 m 40 ls []) := by
    intro j40_i_thrown hf H locs ls hR hS hl
    unfold f14_cell_j40 at hf
    refine lv_aload_n hx hb dX14_cell_40 rfl (lv_at hl 0 rfl) ?_
    obtain ⟨rr2, hrr2, hf⟩ := bind_s hf
    refine g0_cV (rm := (0, 0)) (As := []) (rest := []) ⟨hx, hb, hml, hown, hts⟩ hG hR hS (m14_refuse l G K (ov I [(1100, o, j40_i_thrown), (1122, o, rr1.1)]) J X (ova A [((o + 2), rr1.2)]) B Q o shM j40_i_thrown (ov_get 0 rfl rfl) rr2 hrr2) (cwV 0 hts gi_X14_291 rfl rfl rfl hd_X14_refuse ⟨Nat.le_of_ble_eq_true rfl, Nat.le_of_ble_eq_true rfl⟩) shM.1 rfl rfl hl.1 (Nat.le_of_ble_eq_true rfl) dX14_cell_41 ⟨Nat.le_refl _, Nat.le_refl _⟩ rfl (fun H locs hR hS => ?_)
    have hR : RS G K (ov I [(1100, o, rr2.2), (1122, o, rr1.1)]) J X (ova A [((o + 2), rr1.2)]) B Q H := hR.to (ov_merge (l := [(1100, o, j40_i_thrown), (1122, o, rr1.1)]) rfl [0] [(1100, o, rr2.2)] rfl rfl) rfl rfl rfl rfl rfl
    obtain rfl := some_i hf
    exact hend _ _ _ _ dX14_cell_44 hR hS
  refine lv_if_lt (tgt := 40) hx hb dX14_cell_5 (by decide) (fun c3 => ?_) (fun c3 => ?_)
  · have hf := ite_t c3 hf
    exact hj40 i_thrown hf _ _ _ hR hS (lv_sub hl [0] rfl)
  · have hf := ite_f c3 hf
    refine lv_iload_n hx hb dX14_cell_8 rfl (lv_at hl 1 rfl) ?_
    refine lv_aload_n hx hb dX14_cell_9 rfl (lv_at hl 0 rfl) ?_
    obtain ⟨rr4, hrr4, hf⟩ := bind_s hf
    refine g0_cV (rm := (0, 0)) (As := []) (rest := [.int p1]) ⟨hx, hb, hml, hown, hts⟩ hG hR hS (m14_columns l G K (ov I [(1100, o, i_thrown), (1122, o, rr1.1)]) J X (ova A [((o + 2), rr1.2)]) B Q o shM rr1.2 (ova_get 0 hN_A rfl) rr4 hrr4) (cwV 0 hts gi_X14_298 rfl rfl rfl hd_X14_columns ⟨Nat.le_of_ble_eq_true rfl, Nat.le_of_ble_eq_true rfl⟩) shM.1 rfl rfl hl.1 (Nat.le_of_ble_eq_true rfl) dX14_cell_10 ⟨Nat.le_refl _, Nat.le_refl _⟩ rfl (fun H locs hR hS => ?_)
    refine lv_icmp_ge (tgt := 40) hx hb dX14_cell_13 (by decide) (fun c5 => ?_) (fun c5 => ?_)
    · have hf := ite_t c5 hf
      exact hj40 i_thrown hf _ _ _ hR hS (lv_sub hl [0] rfl)
    · have hf := ite_f c5 hf
      refine lv_iload_n hx hb dX14_cell_16 rfl (lv_at hl 2 rfl) ?_
      refine lv_if_lt (tgt := 40) hx hb dX14_cell_17 (by decide) (fun c6 => ?_) (fun c6 => ?_)
      · have hf := ite_t c6 hf
        exact hj40 i_thrown hf _ _ _ hR hS (lv_sub hl [0] rfl)
      · have hf := ite_f c6 hf
        refine lv_iload_n hx hb dX14_cell_20 rfl (lv_at hl 2 rfl) ?_
        refine lv_aload_n hx hb dX14_cell_21 rfl (lv_at hl 0 rfl) ?_
        refine g_getr (b := (o + 2)) hx hb hts hown hG hR gFx_X14_13_11 shM.1 ((shM.2 1 _ rfl).2) dX14_cell_22 ?_
        refine lv_bipush (v := 10) hx hb dX14_cell_25 lb_10 ?_
        obtain ⟨c7, hf⟩ := gd_some hf
        obtain ⟨v8, ev8, hf⟩ := lt_some hf
        refine n_iald (x := rr1.2) hx hb hG hR k_a_now c7 (ova_get 0 hN_A rfl) ev8 dX14_cell_27 ?_
        refine lv_icmp_ge (tgt := 40) hx hb dX14_cell_28 (by decide) (fun c9 => ?_) (fun c9 => ?_)
        · have hf := ite_t c9 hf
          exact hj40 i_thrown hf _ _ _ hR hS (lv_sub hl [0] rfl)
        · have hf := ite_f c9 hf
          refine lv_iload_n hx hb dX14_cell_31 rfl (lv_at hl 3 rfl) ?_
          refine lv_iconst (v := 0) hx hb dX14_cell_32 li_0 ?_
          refine lv_iconst (v := 1) hx hb dX14_cell_33 li_1 ?_
          obtain ⟨rr10, hrr10, hf⟩ := bind_s hf
          refine g0_cS (rm := (0, 0)) (As := [.int p3, .int (0 : Int32), .int (1 : Int32)]) (rest := []) ⟨hx, hb, hml, hown, hts⟩ hG hR hS (m14_isIn l G K (ov I [(1100, o, i_thrown), (1122, o, rr1.1)]) J X (ova A [((o + 2), rr1.2)]) B Q p3 (0 : Int32) (1 : Int32) rr10 hrr10) (cwS 3 hts gi_X14_219 rfl rfl rfl hd_X14_isIn ⟨Nat.le_of_ble_eq_true rfl, Nat.le_of_ble_eq_true rfl⟩) rfl hl.1 (Nat.le_of_ble_eq_true rfl) dX14_cell_34 ⟨Nat.le_refl _, Nat.le_refl _⟩ rfl (fun H locs hR hS => ?_)
          refine lv_if_ne (tgt := 45) hx hb dX14_cell_37 (by decide) (fun c11 => ?_) (fun c11 => ?_)
          · have hf := ite_f c11 hf
            refine lv_aload_n hx hb dX14_cell_45 rfl (lv_at hl 0 rfl) ?_
            refine lv_iconst (v := 0) hx hb dX14_cell_46 li_0 ?_
            refine n_puti (li' := [(1100, o, (0 : Int32)), (1122, o, rr1.1)]) hx hb hts hown hG hR hS gPi_X14_148_11 shM.1 0 rfl rfl rfl dX14_cell_47 (fun H locs hR hS => ?_)
            refine lv_aload_n hx hb dX14_cell_50 rfl (lv_at hl 0 rfl) ?_
            refine g_getr (b := (o + 2)) hx hb hts hown hG hR gFx_X14_13_11 shM.1 ((shM.2 1 _ rfl).2) dX14_cell_51 ?_
            refine lv_iload_n hx hb dX14_cell_54 rfl (lv_at hl 3 rfl) ?_
            have hj66 : ∀ (j66_s0 : Int32), f14_cell_j66 p1 p2 rr1 j66_s0 = some out → ∀ (H : Heap) (locs : List Loc) (ls : Array Slot), RS G K (ov I [(1100, o, (0 : Int32)), (1122, o, rr1.1)]) J X (ova A [((o + 2), rr1.2)]) B Q H → va_S (gA G) s.heap H locs → lv_has ls 4 [(0, .ref o), (1, .int p1), (2, .int p2)] → W p l e ({ frames := 2, cells := 0, slots := 0, locals := 41 } : Room) s m args below meth c H locs 0 0 Z (F0 m 66 ls [.int j66_s0, .ref (o + 2)]) := by
              intro j66_s0 hf H locs ls hR hS hl
              unfold f14_cell_j66 at hf
              refine lv_aload_n hx hb dX14_cell_66 rfl (lv_at hl 0 rfl) ?_
              obtain ⟨rr12, hrr12, hf⟩ := bind_s hf
              refine g0_cV (rm := (0, 0)) (As := []) (rest := [.int j66_s0, .ref (o + 2)]) ⟨hx, hb, hml, hown, hts⟩ hG hR hS (m14_columns l G K (ov I [(1100, o, (0 : Int32)), (1122, o, rr1.1)]) J X (ova A [((o + 2), rr1.2)]) B Q o shM rr1.2 (ova_get 0 hN_A rfl) rr12 hrr12) (cwV 0 hts gi_X14_298 rfl rfl rfl hd_X14_columns ⟨Nat.le_of_ble_eq_true rfl, Nat.le_of_ble_eq_true rfl⟩) shM.1 rfl rfl hl.1 (Nat.le_of_ble_eq_true rfl) dX14_cell_67 ⟨Nat.le_refl _, Nat.le_refl _⟩ rfl (fun H locs hR hS => ?_)
              refine lv_iload_n hx hb dX14_cell_70 rfl (lv_at hl 2 rfl) ?_
              obtain ⟨v13, ev13, hf⟩ := lt_some hf
              refine n_imul hx hb ev13 dX14_cell_71 ?_
              obtain ⟨v14, ev14, hf⟩ := lt_some hf
              refine n_iadd hx hb ev14 dX14_cell_72 ?_
              refine lv_iload_n hx hb dX14_cell_73 rfl (lv_at hl 1 rfl) ?_
              obtain ⟨v15, ev15, hf⟩ := lt_some hf
              refine n_iadd hx hb ev15 dX14_cell_74 ?_
              obtain ⟨c16, hf⟩ := gd_some hf
              obtain ⟨v17, ev17, hf⟩ := lt_some hf
              refine n_iald (x := rr1.2) hx hb hG hR k_a_now c16 (ova_get 0 hN_A rfl) ev17 dX14_cell_75 ?_
              obtain rfl := some_i hf
              exact hend _ _ _ _ dX14_cell_76 hR hS
            refine lv_if_ne (tgt := 63) hx hb dX14_cell_55 (by decide) (fun c18 => ?_) (fun c18 => ?_)
            · have hf := ite_f c18 hf
              refine lv_sipush (v := 130) hx hb dX14_cell_63 ls_130 ?_
              exact hj66 (130 : Int32) hf _ _ _ hR hS (lv_sub hl [0, 1, 2] rfl)
            · have hf := ite_t c18 hf
              refine lv_bipush (v := 60) hx hb dX14_cell_58 lb_60 ?_
              refine lv_goto (tgt := 66) hx hb dX14_cell_60 (by decide) ?_
              exact hj66 (60 : Int32) hf _ _ _ hR hS (lv_sub hl [0, 1, 2] rfl)
          · have hf := ite_t c11 hf
            exact hj40 i_thrown hf _ _ _ hR hS (lv_sub hl [0] rfl)
noncomputable def f14_takesTeam_e5_0 (x5_0 : Int32 × Int32 × Int32 × Int32 × (Nat → Int32) × (Nat → Int32)) : Option (Int32 × Int32 × Int32 × Int32 × (Nat → Int32) × (Nat → Int32)) :=
  some x5_0

noncomputable def f14_takesTeam_j76 (a_tape : Nat → Int32) (w5_4 : Int32) (w5_5 : Int32) (w5_a_team : Nat → Int32) : Option ((Int32 × Int32 × (Nat → Int32)) ⊕ (Int32 × Int32 × Int32 × Int32 × (Nat → Int32) × (Nat → Int32))) :=
  gd (inb w5_5 740) <|
  lt (a_tape w5_5.toNatClampNeg) fun v12 =>
  lt ((1 : Int32) <<< (v12 &&& 31)) fun v13 =>
  lt (w5_4 ||| v13) fun v14 =>
  gd (inb w5_5 740) <|
  lt (a_tape w5_5.toNatClampNeg) fun v16 =>
  gd (inb w5_5 12) <|
  lt (upd w5_a_team w5_5.toNatClampNeg v16) fun u18 =>
  lt (w5_5 + (1 : Int32)) fun v19 =>
  some (.inl (v14, v19, u18))

noncomputable def f14_takesTeam_s5 (p3 : Int32) (a_tape : Nat → Int32) (rr1 : Int32 × (Nat → Int32)) (rr2 : Int32 × Int32) (w5_4 : Int32) (w5_5 : Int32) (w5_a_team : Nat → Int32) : Option ((Int32 × Int32 × (Nat → Int32)) ⊕ (Int32 × Int32 × Int32 × Int32 × (Nat → Int32) × (Nat → Int32))) :=
  if rr2.1 ≤ w5_5 then
    some (.inr ((1 : Int32), rr2.2, rr1.1, rr2.1, rr1.2, w5_a_team))
  else
    gd (inb w5_5 740) <|
    lt (a_tape w5_5.toNatClampNeg) fun v8 =>
    (f14_men rr1.2).bind fun rr9 =>
    if rr9 ≤ v8 then
      some (.inr ((0 : Int32), rr2.2, rr1.1, rr2.1, rr1.2, w5_a_team))
    else
      if p3 = 0 then
        f14_takesTeam_j76 a_tape w5_4 w5_5 w5_a_team
      else
        gd (inb w5_5 740) <|
        lt (a_tape w5_5.toNatClampNeg) fun v22 =>
        (f14_has w5_4 v22).bind fun rr23 =>
        if rr23 = 0 then
          f14_takesTeam_j76 a_tape w5_4 w5_5 w5_a_team
        else
          some (.inr ((0 : Int32), rr2.2, rr1.1, rr2.1, rr1.2, w5_a_team))

noncomputable def f14_takesTeam (p1 : Int32) (p2 : Int32) (p3 : Int32) (i_taped : Int32) (i_isBegun : Int32) (i_teamMany : Int32) (a_tape : Nat → Int32) (a_now : Nat → Int32) (a_team : Nat → Int32) : Option (Int32 × Int32 × Int32 × Int32 × (Nat → Int32) × (Nat → Int32)) :=
  (f14_lay i_isBegun a_now).bind fun rr1 =>
  (f14_take i_taped).bind fun rr2 =>
  (f14_isIn rr2.1 p1 p2).bind fun rr3 =>
  if rr3 = 0 then
    some ((0 : Int32), rr2.2, rr1.1, rr2.1, rr1.2, a_team)
  else
    (whl (fun (s5 : Int32 × Int32 × (Nat → Int32)) => f14_takesTeam_s5 p3 a_tape rr1 rr2 s5.1 s5.2.1 s5.2.2) FU ((0 : Int32), (0 : Int32), a_team)).bind fun rl5 =>
    f14_takesTeam_e5_0 rl5
set_option maxHeartbeats 4000000 in
theorem m14_takesTeam (l : Launch) (G : gG) (K : gK) (I : gI) (J : gJ) (X : gX) (A : gI) (B : gJ) (Q : gX) (o : Nat) (shM : Sh K X o 11 rows11) (p1 : Int32) (p2 : Int32) (p3 : Int32) (i_taped : Int32) (i_isBegun : Int32) (i_teamMany : Int32) (a_tape : Nat → Int32) (a_now : Nat → Int32) (a_team : Nat → Int32) (e_i_taped : I 1102 o = i_taped) (e_i_isBegun : I 1122 o = i_isBegun) (e_i_teamMany : I 1133 o = i_teamMany) (e_a_tape : A (o + 1) = a_tape) (e_a_now : A (o + 2) = a_now) (e_a_team : A (o + 10) = a_team) (out : Int32 × Int32 × Int32 × Int32 × (Nat → Int32) × (Nat → Int32)) (hf : f14_takesTeam p1 p2 p3 i_taped i_isBegun i_teamMany a_tape a_now a_team = some out) : GMet l yX14_takesTeam cX14_takesTeam 6 (some .boolean) (2) (41) G [.ref o, .int p1, .int p2, .int p3] K I J X A B Q (some (.int out.1)) K (ov I [(1102, o, out.2.1), (1122, o, out.2.2.1), (1133, o, out.2.2.2.1)]) J X (ova A [((o + 1), a_tape), ((o + 2), out.2.2.2.2.1), ((o + 10), out.2.2.2.2.2)]) B Q 0 0 := by
  refine GMet.of (y := yX14_takesTeam) rfl (Nat.le_of_ble_eq_true rfl) rfl ?_
  intro p e s m below meth c ls hx hb hr hml hlocks hts hown hname hG hR hl
  have hown : s.vm.findClass RX14 = some m.cls := hown
  have k_a_tape : K (o + 1) = some (.inr (0, 740)) := (shM.2 0 _ rfl).1
  have k_a_now : K (o + 2) = some (.inr (0, 800)) := (shM.2 1 _ rfl).1
  have k_a_team : K (o + 10) = some (.inr (0, 12)) := (shM.2 9 _ rfl).1
  have hN_A : nda [(o + 1), (o + 2), (o + 10)] := nd_off o [1, 2, 10] rfl
  have hR : RS G K (ov I [(1102, o, i_taped), (1122, o, i_isBegun), (1133, o, i_teamMany)]) J X (ova A [((o + 1), a_tape), ((o + 2), a_now), ((o + 10), a_team)]) B Q s.heap := hR.to (Eq.symm (ov_sc e_i_taped (ov_sc e_i_isBegun (ov_sc e_i_teamMany rfl)))) rfl rfl (Eq.symm (ova_sc e_a_tape (ova_sc e_a_now (ova_sc e_a_team rfl)))) rfl rfl
  have hS : va_S (gA G) s.heap s.heap [] := va_S.rf
  have hend : ∀ (pc : Nat) (H : Heap) (locs : List Loc) (ls : Array Slot), decode cX14_takesTeam pc = .ok (.ireturn, 1) → narrow .boolean (.int out.1) = .int out.1 → RS G K (ov I [(1102, o, out.2.1), (1122, o, out.2.2.1), (1133, o, out.2.2.2.1)]) J X (ova A [((o + 1), a_tape), ((o + 2), out.2.2.2.2.1), ((o + 10), out.2.2.2.2.2)]) B Q H → va_S (gA G) s.heap H locs → W p l e ({ frames := 2, cells := 0, slots := 0, locals := 41 } : Room) s m ([.ref o, .int p1, .int p2, .int p3] : List Value).toArray below meth c H locs 0 0 (MQ below (gQ G (some (.int out.1)) K (ov I [(1102, o, out.2.1), (1122, o, out.2.2.1), (1133, o, out.2.2.2.1)]) J X (ova A [((o + 1), a_tape), ((o + 2), out.2.2.2.2.1), ((o + 10), out.2.2.2.2.2)]) B Q) ([.ref o, .int p1, .int p2, .int p3] : List Value).toArray s 0 0 (gA G)) (F0 m pc ls [.int out.1]) := fun pc H locs ls hd hz hR hS => g_zret hx hb hr hlocks hz hG hR hS rfl hd
  generalize MQ below (gQ G (some (.int out.1)) K (ov I [(1102, o, out.2.1), (1122, o, out.2.2.1), (1133, o, out.2.2.2.1)]) J X (ova A [((o + 1), a_tape), ((o + 2), out.2.2.2.2.1), ((o + 10), out.2.2.2.2.2)]) B Q) ([.ref o, .int p1, .int p2, .int p3] : List Value).toArray s 0 0 (gA G) = Z at hend ⊢
  generalize ([.ref o, .int p1, .int p2, .int p3] : List Value).toArray = args at hts hend ⊢
  unfold f14_takesTeam at hf
  refine lv_aload_n hx hb dX14_takesTeam_0 rfl (lv_at hl 0 rfl) ?_
  obtain ⟨rr1, hrr1, hf⟩ := bind_s hf
  refine g0_cVv (rm := (1, 21)) (As := []) (rest := []) ⟨hx, hb, hml, hown, hts⟩ hG hR hS (m14_lay l G K (ov I [(1102, o, i_taped), (1122, o, i_isBegun), (1133, o, i_teamMany)]) J X (ova A [((o + 1), a_tape), ((o + 2), a_now), ((o + 10), a_team)]) B Q o shM i_isBegun a_now (ov_get 1 rfl rfl) (ova_get 1 hN_A rfl) rr1 hrr1) (cwV 0 hts gi_X14_232 rfl rfl rfl hd_X14_lay ⟨Nat.le_of_ble_eq_true rfl, Nat.le_of_ble_eq_true rfl⟩) shM.1 rfl rfl hl.1 (Nat.le_of_ble_eq_true rfl) dX14_takesTeam_1 ⟨Nat.le_refl _, Nat.le_refl _⟩ rfl (fun H locs hR hS => ?_)
  have hR : RS G K (ov I [(1102, o, i_taped), (1122, o, rr1.1), (1133, o, i_teamMany)]) J X (ova A [((o + 1), a_tape), ((o + 2), rr1.2), ((o + 10), a_team)]) B Q H := hR.to (ov_merge (l := [(1102, o, i_taped), (1122, o, i_isBegun), (1133, o, i_teamMany)]) rfl [1] [(1122, o, rr1.1)] rfl rfl) rfl rfl (ova_merge (l := [((o + 1), a_tape), ((o + 2), a_now), ((o + 10), a_team)]) hN_A [1] [((o + 2), rr1.2)] rfl rfl) rfl rfl
  refine lv_aload_n hx hb dX14_takesTeam_4 rfl (lv_at hl 0 rfl) ?_
  refine lv_aload_n hx hb dX14_takesTeam_5 rfl (lv_at hl 0 rfl) ?_
  obtain ⟨rr2, hrr2, hf⟩ := bind_s hf
  refine g0_cV (rm := (0, 0)) (As := []) (rest := [.ref o]) ⟨hx, hb, hml, hown, hts⟩ hG hR hS (m14_take l G K (ov I [(1102, o, i_taped), (1122, o, rr1.1), (1133, o, i_teamMany)]) J X (ova A [((o + 1), a_tape), ((o + 2), rr1.2), ((o + 10), a_team)]) B Q o shM i_taped (ov_get 0 rfl rfl) rr2 hrr2) (cwV 0 hts gi_X14_235 rfl rfl rfl hd_X14_take ⟨Nat.le_of_ble_eq_true rfl, Nat.le_of_ble_eq_true rfl⟩) shM.1 rfl rfl hl.1 (Nat.le_of_ble_eq_true rfl) dX14_takesTeam_6 ⟨Nat.le_refl _, Nat.le_refl _⟩ rfl (fun H locs hR hS => ?_)
  have hR : RS G K (ov I [(1102, o, rr2.2), (1122, o, rr1.1), (1133, o, i_teamMany)]) J X (ova A [((o + 1), a_tape), ((o + 2), rr1.2), ((o + 10), a_team)]) B Q H := hR.to (ov_merge (l := [(1102, o, i_taped), (1122, o, rr1.1), (1133, o, i_teamMany)]) rfl [0] [(1102, o, rr2.2)] rfl rfl) rfl rfl rfl rfl rfl
  refine n_puti (li' := [(1102, o, rr2.2), (1122, o, rr1.1), (1133, o, rr2.1)]) hx hb hts hown hG hR hS gPi_X14_304_11 shM.1 2 rfl rfl rfl dX14_takesTeam_9 (fun H locs hR hS => ?_)
  refine lv_aload_n hx hb dX14_takesTeam_12 rfl (lv_at hl 0 rfl) ?_
  refine n_geti (v := rr2.1) hx hb hts hown hG hR gFi_X14_304_11 shM.1 (ov_get 2 rfl rfl) dX14_takesTeam_13 ?_
  refine lv_iload_n hx hb dX14_takesTeam_16 rfl (lv_at hl 1 rfl) ?_
  refine lv_iload_n hx hb dX14_takesTeam_17 rfl (lv_at hl 2 rfl) ?_
  obtain ⟨rr3, hrr3, hf⟩ := bind_s hf
  refine g0_cS (rm := (0, 0)) (As := [.int rr2.1, .int p1, .int p2]) (rest := []) ⟨hx, hb, hml, hown, hts⟩ hG hR hS (m14_isIn l G K (ov I [(1102, o, rr2.2), (1122, o, rr1.1), (1133, o, rr2.1)]) J X (ova A [((o + 1), a_tape), ((o + 2), rr1.2), ((o + 10), a_team)]) B Q rr2.1 p1 p2 rr3 hrr3) (cwS 3 hts gi_X14_219 rfl rfl rfl hd_X14_isIn ⟨Nat.le_of_ble_eq_true rfl, Nat.le_of_ble_eq_true rfl⟩) rfl hl.1 (Nat.le_of_ble_eq_true rfl) dX14_takesTeam_18 ⟨Nat.le_refl _, Nat.le_refl _⟩ rfl (fun H locs hR hS => ?_)
  refine lv_if_ne (tgt := 26) hx hb dX14_takesTeam_21 (by decide) (fun c4 => ?_) (fun c4 => ?_)
  · have hf := ite_f c4 hf
    refine lv_iconst (v := 0) hx hb dX14_takesTeam_26 li_0 ?_
    refine lv_istore (lv' := [(4, .int (0 : Int32)), (0, .ref o), (1, .int p1), (2, .int p2), (3, .int p3)]) hx hb dX14_takesTeam_27 hl (by decide) rfl (fun ls hl => ?_)
    refine lv_iconst (v := 0) hx hb dX14_takesTeam_29 li_0 ?_
    refine lv_istore (lv' := [(5, .int (0 : Int32)), (4, .int (0 : Int32)), (0, .ref o), (1, .int p1), (2, .int p2), (3, .int p3)]) hx hb dX14_takesTeam_30 hl (by decide) rfl (fun ls hl => ?_)
    obtain ⟨rl5, hw5, hfo5⟩ := bind_s hf
    have hx5_0 : ∀ (x5_0 : Int32 × Int32 × Int32 × Int32 × (Nat → Int32) × (Nat → Int32)), f14_takesTeam_e5_0 x5_0 = some out → ∀ (pc : Nat) (H : Heap) (locs : List Loc) (ls : Array Slot), decode cX14_takesTeam pc = .ok (.ireturn, 1) → narrow .boolean (.int x5_0.1) = .int x5_0.1 → RS G K (ov I [(1102, o, x5_0.2.1), (1122, o, x5_0.2.2.1), (1133, o, x5_0.2.2.2.1)]) J X (ova A [((o + 1), a_tape), ((o + 2), x5_0.2.2.2.2.1), ((o + 10), x5_0.2.2.2.2.2)]) B Q H → va_S (gA G) s.heap H locs → W p l e ({ frames := 2, cells := 0, slots := 0, locals := 41 } : Room) s m args below meth c H locs 0 0 Z (F0 m pc ls [.int x5_0.1]) := by
      intro x5_0 hf pc H locs ls hd hz hR hS
      unfold f14_takesTeam_e5_0 at hf
      obtain rfl := some_i hf
      exact hend _ _ _ _ hd hz hR hS
    refine whl_walk (P := fun (s5 : Int32 × Int32 × (Nat → Int32)) => ∀ (H : Heap) (locs : List Loc) (ls : Array Slot), RS G K (ov I [(1102, o, rr2.2), (1122, o, rr1.1), (1133, o, rr2.1)]) J X (ova A [((o + 1), a_tape), ((o + 2), rr1.2), ((o + 10), s5.2.2)]) B Q H → va_S (gA G) s.heap H locs → lv_has ls 6 [(0, .ref o), (3, .int p3), (4, .int s5.1), (5, .int s5.2.1)] → W p l e ({ frames := 2, cells := 0, slots := 0, locals := 41 } : Room) s m args below meth c H locs 0 0 Z (F0 m 32 ls [])) (r := rl5) ?_ FU _ hw5 _ _ _ hR hS (lv_sub hl [2, 5, 1, 0] rfl)
    clear hR hS hl hf
    intro s5 o5 hf hk5 H locs ls hR hS hl
    obtain ⟨w5_4, w5_5, w5_a_team⟩ := s5
    have hf : f14_takesTeam_s5 p3 a_tape rr1 rr2 w5_4 w5_5 w5_a_team = some o5 := hf
    have hR : RS G K (ov I [(1102, o, rr2.2), (1122, o, rr1.1), (1133, o, rr2.1)]) J X (ova A [((o + 1), a_tape), ((o + 2), rr1.2), ((o + 10), w5_a_team)]) B Q H := hR
    have hl : lv_has ls 6 [(0, .ref o), (3, .int p3), (4, .int w5_4), (5, .int w5_5)] := hl
    unfold f14_takesTeam_s5 at hf
    refine lv_iload hx hb dX14_takesTeam_32 (lv_at hl 3 rfl) ?_
    refine lv_aload_n hx hb dX14_takesTeam_34 rfl (lv_at hl 0 rfl) ?_
    refine n_geti (v := rr2.1) hx hb hts hown hG hR gFi_X14_304_11 shM.1 (ov_get 2 rfl rfl) dX14_takesTeam_35 ?_
    refine lv_icmp_ge (tgt := 110) hx hb dX14_takesTeam_38 (by decide) (fun c6 => ?_) (fun c6 => ?_)
    · have hf := ite_t c6 hf
      refine lv_iconst (v := 1) hx hb dX14_takesTeam_110 li_1 ?_
      obtain rfl := some_i hf
      replace hk5 : _ = rl5 := hk5
      subst hk5
      exact hx5_0 ((1 : Int32), rr2.2, rr1.1, rr2.1, rr1.2, w5_a_team) hfo5 _ _ _ _ dX14_takesTeam_111 nz_1 hR hS
    · have hf := ite_f c6 hf
      refine lv_aload_n hx hb dX14_takesTeam_41 rfl (lv_at hl 0 rfl) ?_
      refine g_getr (b := (o + 1)) hx hb hts hown hG hR gFx_X14_7_11 shM.1 ((shM.2 0 _ rfl).2) dX14_takesTeam_42 ?_
      refine lv_iload hx hb dX14_takesTeam_45 (lv_at hl 3 rfl) ?_
      obtain ⟨c7, hf⟩ := gd_some hf
      obtain ⟨v8, ev8, hf⟩ := lt_some hf
      refine n_iald (x := a_tape) hx hb hG hR k_a_tape c7 (ova_get 0 hN_A rfl) ev8 dX14_takesTeam_47 ?_
      refine lv_aload_n hx hb dX14_takesTeam_48 rfl (lv_at hl 0 rfl) ?_
      obtain ⟨rr9, hrr9, hf⟩ := bind_s hf
      refine g0_cV (rm := (0, 0)) (As := []) (rest := [.int v8]) ⟨hx, hb, hml, hown, hts⟩ hG hR hS (m14_men l G K (ov I [(1102, o, rr2.2), (1122, o, rr1.1), (1133, o, rr2.1)]) J X (ova A [((o + 1), a_tape), ((o + 2), rr1.2), ((o + 10), w5_a_team)]) B Q o shM rr1.2 (ova_get 1 hN_A rfl) rr9 hrr9) (cwV 0 hts gi_X14_288 rfl rfl rfl hd_X14_men ⟨Nat.le_of_ble_eq_true rfl, Nat.le_of_ble_eq_true rfl⟩) shM.1 rfl rfl hl.1 (Nat.le_of_ble_eq_true rfl) dX14_takesTeam_49 ⟨Nat.le_refl _, Nat.le_refl _⟩ rfl (fun H locs hR hS => ?_)
      refine lv_icmp_ge (tgt := 74) hx hb dX14_takesTeam_52 (by decide) (fun c10 => ?_) (fun c10 => ?_)
      · have hf := ite_t c10 hf
        refine lv_iconst (v := 0) hx hb dX14_takesTeam_74 li_0 ?_
        obtain rfl := some_i hf
        replace hk5 : _ = rl5 := hk5
        subst hk5
        exact hx5_0 ((0 : Int32), rr2.2, rr1.1, rr2.1, rr1.2, w5_a_team) hfo5 _ _ _ _ dX14_takesTeam_75 nz_0 hR hS
      · have hf := ite_f c10 hf
        refine lv_iload_n hx hb dX14_takesTeam_55 rfl (lv_at hl 1 rfl) ?_
        have hj76 : ∀ (_ : Unit), f14_takesTeam_j76 a_tape w5_4 w5_5 w5_a_team = some o5 → ∀ (H : Heap) (locs : List Loc) (ls : Array Slot), RS G K (ov I [(1102, o, rr2.2), (1122, o, rr1.1), (1133, o, rr2.1)]) J X (ova A [((o + 1), a_tape), ((o + 2), rr1.2), ((o + 10), w5_a_team)]) B Q H → va_S (gA G) s.heap H locs → lv_has ls 6 [(0, .ref o), (3, .int p3), (4, .int w5_4), (5, .int w5_5)] → W p l e ({ frames := 2, cells := 0, slots := 0, locals := 41 } : Room) s m args below meth c H locs 0 0 Z (F0 m 76 ls []) := by
          intro _ hf H locs ls hR hS hl
          unfold f14_takesTeam_j76 at hf
          refine lv_iload hx hb dX14_takesTeam_76 (lv_at hl 2 rfl) ?_
          refine lv_iconst (v := 1) hx hb dX14_takesTeam_78 li_1 ?_
          refine lv_aload_n hx hb dX14_takesTeam_79 rfl (lv_at hl 0 rfl) ?_
          refine g_getr (b := (o + 1)) hx hb hts hown hG hR gFx_X14_7_11 shM.1 ((shM.2 0 _ rfl).2) dX14_takesTeam_80 ?_
          refine lv_iload hx hb dX14_takesTeam_83 (lv_at hl 3 rfl) ?_
          obtain ⟨c11, hf⟩ := gd_some hf
          obtain ⟨v12, ev12, hf⟩ := lt_some hf
          refine n_iald (x := a_tape) hx hb hG hR k_a_tape c11 (ova_get 0 hN_A rfl) ev12 dX14_takesTeam_85 ?_
          obtain ⟨v13, ev13, hf⟩ := lt_some hf
          refine n_ishl hx hb ev13 dX14_takesTeam_86 ?_
          obtain ⟨v14, ev14, hf⟩ := lt_some hf
          refine n_ior hx hb ev14 dX14_takesTeam_87 ?_
          refine lv_istore (lv' := [(4, .int v14), (0, .ref o), (3, .int p3), (5, .int w5_5)]) hx hb dX14_takesTeam_88 hl (by decide) rfl (fun ls hl => ?_)
          refine lv_aload_n hx hb dX14_takesTeam_90 rfl (lv_at hl 1 rfl) ?_
          refine g_getr (b := (o + 10)) hx hb hts hown hG hR gFx_X14_39_11 shM.1 ((shM.2 9 _ rfl).2) dX14_takesTeam_91 ?_
          refine lv_iload hx hb dX14_takesTeam_94 (lv_at hl 3 rfl) ?_
          refine lv_aload_n hx hb dX14_takesTeam_96 rfl (lv_at hl 1 rfl) ?_
          refine g_getr (b := (o + 1)) hx hb hts hown hG hR gFx_X14_7_11 shM.1 ((shM.2 0 _ rfl).2) dX14_takesTeam_97 ?_
          refine lv_iload hx hb dX14_takesTeam_100 (lv_at hl 3 rfl) ?_
          obtain ⟨c15, hf⟩ := gd_some hf
          obtain ⟨v16, ev16, hf⟩ := lt_some hf
          refine n_iald (x := a_tape) hx hb hG hR k_a_tape c15 (ova_get 0 hN_A rfl) ev16 dX14_takesTeam_102 ?_
          obtain ⟨c17, hf⟩ := gd_some hf
          obtain ⟨u18, eu18, hf⟩ := lt_some hf
          refine n_iast (la' := [((o + 1), a_tape), ((o + 2), rr1.2), ((o + 10), u18)]) hx hb hG hR hS k_a_team c17 hN_A 2 rfl eu18 rfl dX14_takesTeam_103 (fun H locs hR hS => ?_)
          obtain ⟨v19, ev19, hf⟩ := lt_some hf
          refine lv_iinc (k := 3) (v := v19) (lv' := [(5, .int v19), (4, .int v14), (0, .ref o), (3, .int p3)]) hx hb dX14_takesTeam_104 hl rfl (by rw [ev19]; rfl) (by decide) rfl (fun ls hl => ?_)
          refine lv_goto (tgt := 32) hx hb dX14_takesTeam_107 (by decide) ?_
          obtain rfl := some_i hf
          exact hk5 _ _ _ hR hS (lv_sub hl [2, 3, 1, 0] rfl)
        refine lv_if_eq (tgt := 76) hx hb dX14_takesTeam_56 (by decide) (fun c20 => ?_) (fun c20 => ?_)
        · have hf := ite_t c20 hf
          exact hj76 () hf _ _ _ hR hS (lv_sub hl [0, 1, 2, 3] rfl)
        · have hf := ite_f c20 hf
          refine lv_iload hx hb dX14_takesTeam_59 (lv_at hl 2 rfl) ?_
          refine lv_aload_n hx hb dX14_takesTeam_61 rfl (lv_at hl 0 rfl) ?_
          refine g_getr (b := (o + 1)) hx hb hts hown hG hR gFx_X14_7_11 shM.1 ((shM.2 0 _ rfl).2) dX14_takesTeam_62 ?_
          refine lv_iload hx hb dX14_takesTeam_65 (lv_at hl 3 rfl) ?_
          obtain ⟨c21, hf⟩ := gd_some hf
          obtain ⟨v22, ev22, hf⟩ := lt_some hf
          refine n_iald (x := a_tape) hx hb hG hR k_a_tape c21 (ova_get 0 hN_A rfl) ev22 dX14_takesTeam_67 ?_
          obtain ⟨rr23, hrr23, hf⟩ := bind_s hf
          refine g0_cS (rm := (0, 0)) (As := [.int w5_4, .int v22]) (rest := []) ⟨hx, hb, hml, hown, hts⟩ hG hR hS (m14_has l G K (ov I [(1102, o, rr2.2), (1122, o, rr1.1), (1133, o, rr2.1)]) J X (ova A [((o + 1), a_tape), ((o + 2), rr1.2), ((o + 10), w5_a_team)]) B Q w5_4 v22 rr23 hrr23) (cwS 2 hts gi_X14_258 rfl rfl rfl hd_X14_has ⟨Nat.le_of_ble_eq_true rfl, Nat.le_of_ble_eq_true rfl⟩) rfl hl.1 (Nat.le_of_ble_eq_true rfl) dX14_takesTeam_68 ⟨Nat.le_refl _, Nat.le_refl _⟩ rfl (fun H locs hR hS => ?_)
          refine lv_if_eq (tgt := 76) hx hb dX14_takesTeam_71 (by decide) (fun c24 => ?_) (fun c24 => ?_)
          · have hf := ite_t c24 hf
            exact hj76 () hf _ _ _ hR hS (lv_sub hl [0, 1, 2, 3] rfl)
          · have hf := ite_f c24 hf
            refine lv_iconst (v := 0) hx hb dX14_takesTeam_74 li_0 ?_
            obtain rfl := some_i hf
            replace hk5 : _ = rl5 := hk5
            subst hk5
            exact hx5_0 ((0 : Int32), rr2.2, rr1.1, rr2.1, rr1.2, w5_a_team) hfo5 _ _ _ _ dX14_takesTeam_75 nz_0 hR hS
  · have hf := ite_t c4 hf
    refine lv_iconst (v := 0) hx hb dX14_takesTeam_24 li_0 ?_
    obtain rfl := some_i hf
    exact hend _ _ _ _ dX14_takesTeam_25 nz_0 hR hS
noncomputable def f14_finishes_j122 (p1 : Int32) (a_load : Nat → Int32) (u5 : Nat → Int32) (j122_i_away : Int32) (j122_i_litresThrown : Int32) (j122_i_spilt : Int32) (j122_i_pailsThrown : Int32) (j122_a_queue : Nat → Int32) (j122_a_waits : Nat → Int32) (j122_a_comes : Nat → Int32) : Option (Int32 × Int32 × Int32 × Int32 × (Nat → Int32) × (Nat → Int32) × (Nat → Int32) × (Nat → Int32) × (Nat → Int32)) :=
  gd (inb p1 12) <|
  lt (upd a_load p1.toNatClampNeg (0 : Int32)) fun u8 =>
  some (j122_i_away, j122_i_litresThrown, j122_i_spilt, j122_i_pailsThrown, u8, u5, j122_a_queue, j122_a_waits, j122_a_comes)

noncomputable def f14_finishes (p1 : Int32) (i_teamMany : Int32) (i_tick : Int32) (i_away : Int32) (i_litresThrown : Int32) (i_spilt : Int32) (i_pailsThrown : Int32) (a_now : Nat → Int32) (a_load : Nat → Int32) (a_done : Nat → Int32) (a_queue : Nat → Int32) (a_waits : Nat → Int32) (a_comes : Nat → Int32) : Option (Int32 × Int32 × Int32 × Int32 × (Nat → Int32) × (Nat → Int32) × (Nat → Int32) × (Nat → Int32) × (Nat → Int32)) :=
  gd (inb p1 12) <|
  lt (a_done p1.toNatClampNeg) fun v2 =>
  lt (v2 + (1 : Int32)) fun v3 =>
  gd (inb p1 12) <|
  lt (upd a_done p1.toNatClampNeg v3) fun u5 =>
  lt (i_teamMany - (1 : Int32)) fun v6 =>
  if p1 = v6 then
    gd (inb p1 12) <|
    lt (a_load p1.toNatClampNeg) fun v24 =>
    lt (i_litresThrown + v24) fun v25 =>
    lt (i_pailsThrown + (1 : Int32)) fun v26 =>
    gd (inb (7 : Int32) 800) <|
    lt (a_now (7 : Int32).toNatClampNeg) fun v28 =>
    lt (i_tick + v28) fun v29 =>
    gd (inb i_away 30) <|
    lt (upd a_comes i_away.toNatClampNeg v29) fun u31 =>
    lt (i_away + (1 : Int32)) fun v32 =>
    f14_finishes_j122 p1 a_load u5 v32 v25 i_spilt v26 a_queue a_waits u31
  else
    gd (inb p1 12) <|
    lt (a_load p1.toNatClampNeg) fun v11 =>
    gd (inb (6 : Int32) 800) <|
    lt (a_now (6 : Int32).toNatClampNeg) fun v13 =>
    lt (v11 * v13) fun v14 =>
    gd (¬ (100 : Int32) = 0) <|
    lt (v14 / (100 : Int32)) fun v15 =>
    lt (i_spilt + v15) fun v17 =>
    lt (p1 + (1 : Int32)) fun v18 =>
    gd (inb p1 12) <|
    lt (a_load p1.toNatClampNeg) fun v20 =>
    lt (v20 - v15) fun v21 =>
    (f14_push v18 v21 a_queue a_waits).bind fun rr22 =>
    f14_finishes_j122 p1 a_load u5 i_away i_litresThrown v17 i_pailsThrown rr22.1 rr22.2 a_comes
set_option maxHeartbeats 4000000 in
theorem m14_finishes (l : Launch) (G : gG) (K : gK) (I : gI) (J : gJ) (X : gX) (A : gI) (B : gJ) (Q : gX) (o : Nat) (shM : Sh K X o 11 rows11) (p1 : Int32) (i_teamMany : Int32) (i_tick : Int32) (i_away : Int32) (i_litresThrown : Int32) (i_spilt : Int32) (i_pailsThrown : Int32) (a_now : Nat → Int32) (a_load : Nat → Int32) (a_done : Nat → Int32) (a_queue : Nat → Int32) (a_waits : Nat → Int32) (a_comes : Nat → Int32) (e_i_teamMany : I 1133 o = i_teamMany) (e_i_tick : I 1136 o = i_tick) (e_i_away : I 1138 o = i_away) (e_i_litresThrown : I 1139 o = i_litresThrown) (e_i_spilt : I 1140 o = i_spilt) (e_i_pailsThrown : I 1141 o = i_pailsThrown) (e_a_now : A (o + 2) = a_now) (e_a_load : A (o + 12) = a_load) (e_a_done : A (o + 13) = a_done) (e_a_queue : A (o + 14) = a_queue) (e_a_waits : A (o + 15) = a_waits) (e_a_comes : A (o + 17) = a_comes) (out : Int32 × Int32 × Int32 × Int32 × (Nat → Int32) × (Nat → Int32) × (Nat → Int32) × (Nat → Int32) × (Nat → Int32)) (hf : f14_finishes p1 i_teamMany i_tick i_away i_litresThrown i_spilt i_pailsThrown a_now a_load a_done a_queue a_waits a_comes = some out) : GMet l yX14_finishes cX14_finishes 3 none (1) (22) G [.ref o, .int p1] K I J X A B Q none K (ov I [(1138, o, out.1), (1139, o, out.2.1), (1140, o, out.2.2.1), (1141, o, out.2.2.2.1)]) J X (ova A [((o + 2), a_now), ((o + 12), out.2.2.2.2.1), ((o + 13), out.2.2.2.2.2.1), ((o + 14), out.2.2.2.2.2.2.1), ((o + 15), out.2.2.2.2.2.2.2.1), ((o + 17), out.2.2.2.2.2.2.2.2)]) B Q 0 0 := by
  refine GMet.of (y := yX14_finishes) rfl (Nat.le_of_ble_eq_true rfl) rfl ?_
  intro p e s m below meth c ls hx hb hr hml hlocks hts hown hname hG hR hl
  have hown : s.vm.findClass RX14 = some m.cls := hown
  have k_a_now : K (o + 2) = some (.inr (0, 800)) := (shM.2 1 _ rfl).1
  have k_a_load : K (o + 12) = some (.inr (0, 12)) := (shM.2 11 _ rfl).1
  have k_a_done : K (o + 13) = some (.inr (0, 12)) := (shM.2 12 _ rfl).1
  have k_a_queue : K (o + 14) = some (.inr (0, 360)) := (shM.2 13 _ rfl).1
  have k_a_waits : K (o + 15) = some (.inr (0, 12)) := (shM.2 14 _ rfl).1
  have k_a_comes : K (o + 17) = some (.inr (0, 30)) := (shM.2 16 _ rfl).1
  have hN_A : nda [(o + 2), (o + 12), (o + 13), (o + 14), (o + 15), (o + 17)] := nd_off o [2, 12, 13, 14, 15, 17] rfl
  have hR : RS G K (ov I [(1138, o, i_away), (1139, o, i_litresThrown), (1140, o, i_spilt), (1141, o, i_pailsThrown)]) J X (ova A [((o + 2), a_now), ((o + 12), a_load), ((o + 13), a_done), ((o + 14), a_queue), ((o + 15), a_waits), ((o + 17), a_comes)]) B Q s.heap := hR.to (Eq.symm (ov_sc e_i_away (ov_sc e_i_litresThrown (ov_sc e_i_spilt (ov_sc e_i_pailsThrown rfl))))) rfl rfl (Eq.symm (ova_sc e_a_now (ova_sc e_a_load (ova_sc e_a_done (ova_sc e_a_queue (ova_sc e_a_waits (ova_sc e_a_comes rfl))))))) rfl rfl
  have hS : va_S (gA G) s.heap s.heap [] := va_S.rf
  have hend : ∀ (pc : Nat) (H : Heap) (locs : List Loc) (ls : Array Slot), decode cX14_finishes pc = .ok (.return_, 1) → RS G K (ov I [(1138, o, out.1), (1139, o, out.2.1), (1140, o, out.2.2.1), (1141, o, out.2.2.2.1)]) J X (ova A [((o + 2), a_now), ((o + 12), out.2.2.2.2.1), ((o + 13), out.2.2.2.2.2.1), ((o + 14), out.2.2.2.2.2.2.1), ((o + 15), out.2.2.2.2.2.2.2.1), ((o + 17), out.2.2.2.2.2.2.2.2)]) B Q H → va_S (gA G) s.heap H locs → W p l e ({ frames := 1, cells := 0, slots := 0, locals := 22 } : Room) s m ([.ref o, .int p1] : List Value).toArray below meth c H locs 0 0 (MQ below (gQ G none K (ov I [(1138, o, out.1), (1139, o, out.2.1), (1140, o, out.2.2.1), (1141, o, out.2.2.2.1)]) J X (ova A [((o + 2), a_now), ((o + 12), out.2.2.2.2.1), ((o + 13), out.2.2.2.2.2.1), ((o + 14), out.2.2.2.2.2.2.1), ((o + 15), out.2.2.2.2.2.2.2.1), ((o + 17), out.2.2.2.2.2.2.2.2)]) B Q) ([.ref o, .int p1] : List Value).toArray s 0 0 (gA G)) (F0 m pc ls []) := fun pc H locs ls hd hR hS => g_vret hx hb hr hlocks hG hR hS rfl hd
  generalize MQ below (gQ G none K (ov I [(1138, o, out.1), (1139, o, out.2.1), (1140, o, out.2.2.1), (1141, o, out.2.2.2.1)]) J X (ova A [((o + 2), a_now), ((o + 12), out.2.2.2.2.1), ((o + 13), out.2.2.2.2.2.1), ((o + 14), out.2.2.2.2.2.2.1), ((o + 15), out.2.2.2.2.2.2.2.1), ((o + 17), out.2.2.2.2.2.2.2.2)]) B Q) ([.ref o, .int p1] : List Value).toArray s 0 0 (gA G) = Z at hend ⊢
  generalize ([.ref o, .int p1] : List Value).toArray = args at hts hend ⊢
  unfold f14_finishes at hf
  refine lv_aload_n hx hb dX14_finishes_0 rfl (lv_at hl 0 rfl) ?_
  refine g_getr (b := (o + 13)) hx hb hts hown hG hR gFx_X14_48_11 shM.1 ((shM.2 12 _ rfl).2) dX14_finishes_1 ?_
  refine lv_iload_n hx hb dX14_finishes_4 rfl (lv_at hl 1 rfl) ?_
  refine lv_dup2_11 hx hb dX14_finishes_5 rfl rfl ?_
  obtain ⟨c1, hf⟩ := gd_some hf
  obtain ⟨v2, ev2, hf⟩ := lt_some hf
  refine n_iald (x := a_done) hx hb hG hR k_a_done c1 (ova_get 2 hN_A rfl) ev2 dX14_finishes_6 ?_
  refine lv_iconst (v := 1) hx hb dX14_finishes_7 li_1 ?_
  obtain ⟨v3, ev3, hf⟩ := lt_some hf
  refine n_iadd hx hb ev3 dX14_finishes_8 ?_
  obtain ⟨c4, hf⟩ := gd_some hf
  obtain ⟨u5, eu5, hf⟩ := lt_some hf
  refine n_iast (la' := [((o + 2), a_now), ((o + 12), a_load), ((o + 13), u5), ((o + 14), a_queue), ((o + 15), a_waits), ((o + 17), a_comes)]) hx hb hG hR hS k_a_done c4 hN_A 2 rfl eu5 rfl dX14_finishes_9 (fun H locs hR hS => ?_)
  refine lv_iload_n hx hb dX14_finishes_10 rfl (lv_at hl 1 rfl) ?_
  refine lv_aload_n hx hb dX14_finishes_11 rfl (lv_at hl 0 rfl) ?_
  refine n_geti (v := i_teamMany) hx hb hts hown hG hR gFi_X14_304_11 shM.1 ((congrFun (ov_no rfl) _).trans e_i_teamMany) dX14_finishes_12 ?_
  refine lv_iconst (v := 1) hx hb dX14_finishes_15 li_1 ?_
  obtain ⟨v6, ev6, hf⟩ := lt_some hf
  refine n_isub hx hb ev6 dX14_finishes_16 ?_
  have hj122 : ∀ (j122_i_away : Int32) (j122_i_litresThrown : Int32) (j122_i_spilt : Int32) (j122_i_pailsThrown : Int32) (j122_a_queue : Nat → Int32) (j122_a_waits : Nat → Int32) (j122_a_comes : Nat → Int32), f14_finishes_j122 p1 a_load u5 j122_i_away j122_i_litresThrown j122_i_spilt j122_i_pailsThrown j122_a_queue j122_a_waits j122_a_comes = some out → ∀ (H : Heap) (locs : List Loc) (ls : Array Slot), RS G K (ov I [(1138, o, j122_i_away), (1139, o, j122_i_litresThrown), (1140, o, j122_i_spilt), (1141, o, j122_i_pailsThrown)]) J X (ova A [((o + 2), a_now), ((o + 12), a_load), ((o + 13), u5), ((o + 14), j122_a_queue), ((o + 15), j122_a_waits), ((o + 17), j122_a_comes)]) B Q H → va_S (gA G) s.heap H locs → lv_has ls 3 [(0, .ref o), (1, .int p1)] → W p l e ({ frames := 1, cells := 0, slots := 0, locals := 22 } : Room) s m args below meth c H locs 0 0 Z (F0 m 122 ls []) := by
    intro j122_i_away j122_i_litresThrown j122_i_spilt j122_i_pailsThrown j122_a_queue j122_a_waits j122_a_comes hf H locs ls hR hS hl
    unfold f14_finishes_j122 at hf
    refine lv_aload_n hx hb dX14_finishes_122 rfl (lv_at hl 0 rfl) ?_
    refine g_getr (b := (o + 12)) hx hb hts hown hG hR gFx_X14_45_11 shM.1 ((shM.2 11 _ rfl).2) dX14_finishes_123 ?_
    refine lv_iload_n hx hb dX14_finishes_126 rfl (lv_at hl 1 rfl) ?_
    refine lv_iconst (v := 0) hx hb dX14_finishes_127 li_0 ?_
    obtain ⟨c7, hf⟩ := gd_some hf
    obtain ⟨u8, eu8, hf⟩ := lt_some hf
    refine n_iast (la' := [((o + 2), a_now), ((o + 12), u8), ((o + 13), u5), ((o + 14), j122_a_queue), ((o + 15), j122_a_waits), ((o + 17), j122_a_comes)]) hx hb hG hR hS k_a_load c7 hN_A 1 rfl eu8 rfl dX14_finishes_128 (fun H locs hR hS => ?_)
    obtain rfl := some_i hf
    exact hend _ _ _ _ dX14_finishes_129 hR hS
  refine lv_icmp_ne (tgt := 79) hx hb dX14_finishes_17 (by decide) (fun c9 => ?_) (fun c9 => ?_)
  · have hf := ite_f c9 hf
    refine lv_aload_n hx hb dX14_finishes_79 rfl (lv_at hl 0 rfl) ?_
    refine g_getr (b := (o + 12)) hx hb hts hown hG hR gFx_X14_45_11 shM.1 ((shM.2 11 _ rfl).2) dX14_finishes_80 ?_
    refine lv_iload_n hx hb dX14_finishes_83 rfl (lv_at hl 1 rfl) ?_
    obtain ⟨c10, hf⟩ := gd_some hf
    obtain ⟨v11, ev11, hf⟩ := lt_some hf
    refine n_iald (x := a_load) hx hb hG hR k_a_load c10 (ova_get 1 hN_A rfl) ev11 dX14_finishes_84 ?_
    refine lv_aload_n hx hb dX14_finishes_85 rfl (lv_at hl 0 rfl) ?_
    refine g_getr (b := (o + 2)) hx hb hts hown hG hR gFx_X14_13_11 shM.1 ((shM.2 1 _ rfl).2) dX14_finishes_86 ?_
    refine lv_bipush (v := 6) hx hb dX14_finishes_89 lb_6 ?_
    obtain ⟨c12, hf⟩ := gd_some hf
    obtain ⟨v13, ev13, hf⟩ := lt_some hf
    refine n_iald (x := a_now) hx hb hG hR k_a_now c12 (ova_get 0 hN_A rfl) ev13 dX14_finishes_91 ?_
    obtain ⟨v14, ev14, hf⟩ := lt_some hf
    refine n_imul hx hb ev14 dX14_finishes_92 ?_
    refine lv_bipush (v := 100) hx hb dX14_finishes_93 lb_100 ?_
    obtain ⟨c16, hf⟩ := gd_some hf
    obtain ⟨v15, ev15, hf⟩ := lt_some hf
    refine n_idiv hx hb c16 ev15 dX14_finishes_95 ?_
    refine lv_istore_n (lv' := [(2, .int v15), (0, .ref o), (1, .int p1)]) hx hb dX14_finishes_96 rfl hl (by decide) rfl (fun ls hl => ?_)
    refine lv_aload_n hx hb dX14_finishes_97 rfl (lv_at hl 1 rfl) ?_
    refine lv_dup hx hb dX14_finishes_98 rfl ?_
    refine n_geti (v := i_spilt) hx hb hts hown hG hR gFi_X14_319_11 shM.1 (ov_get 2 rfl rfl) dX14_finishes_99 ?_
    refine lv_iload_n hx hb dX14_finishes_102 rfl (lv_at hl 0 rfl) ?_
    obtain ⟨v17, ev17, hf⟩ := lt_some hf
    refine n_iadd hx hb ev17 dX14_finishes_103 ?_
    refine n_puti (li' := [(1138, o, i_away), (1139, o, i_litresThrown), (1140, o, v17), (1141, o, i_pailsThrown)]) hx hb hts hown hG hR hS gPi_X14_319_11 shM.1 2 rfl rfl rfl dX14_finishes_104 (fun H locs hR hS => ?_)
    refine lv_aload_n hx hb dX14_finishes_107 rfl (lv_at hl 1 rfl) ?_
    refine lv_iload_n hx hb dX14_finishes_108 rfl (lv_at hl 2 rfl) ?_
    refine lv_iconst (v := 1) hx hb dX14_finishes_109 li_1 ?_
    obtain ⟨v18, ev18, hf⟩ := lt_some hf
    refine n_iadd hx hb ev18 dX14_finishes_110 ?_
    refine lv_aload_n hx hb dX14_finishes_111 rfl (lv_at hl 1 rfl) ?_
    refine g_getr (b := (o + 12)) hx hb hts hown hG hR gFx_X14_45_11 shM.1 ((shM.2 11 _ rfl).2) dX14_finishes_112 ?_
    refine lv_iload_n hx hb dX14_finishes_115 rfl (lv_at hl 2 rfl) ?_
    obtain ⟨c19, hf⟩ := gd_some hf
    obtain ⟨v20, ev20, hf⟩ := lt_some hf
    refine n_iald (x := a_load) hx hb hG hR k_a_load c19 (ova_get 1 hN_A rfl) ev20 dX14_finishes_116 ?_
    refine lv_iload_n hx hb dX14_finishes_117 rfl (lv_at hl 0 rfl) ?_
    obtain ⟨v21, ev21, hf⟩ := lt_some hf
    refine n_isub hx hb ev21 dX14_finishes_118 ?_
    obtain ⟨rr22, hrr22, hf⟩ := bind_s hf
    refine g0_cVv (rm := (0, 0)) (As := [.int v18, .int v21]) (rest := []) ⟨hx, hb, hml, hown, hts⟩ hG hR hS (m14_push l G K (ov I [(1138, o, i_away), (1139, o, i_litresThrown), (1140, o, v17), (1141, o, i_pailsThrown)]) J X (ova A [((o + 2), a_now), ((o + 12), a_load), ((o + 13), u5), ((o + 14), a_queue), ((o + 15), a_waits), ((o + 17), a_comes)]) B Q o shM v18 v21 a_queue a_waits (ova_get 3 hN_A rfl) (ova_get 4 hN_A rfl) rr22 hrr22) (cwV 2 hts gi_X14_337 rfl rfl rfl hd_X14_push ⟨Nat.le_of_ble_eq_true rfl, Nat.le_of_ble_eq_true rfl⟩) shM.1 rfl rfl hl.1 (Nat.le_of_ble_eq_true rfl) dX14_finishes_119 ⟨Nat.le_refl _, Nat.le_refl _⟩ rfl (fun H locs hR hS => ?_)
    have hR : RS G K (ov I [(1138, o, i_away), (1139, o, i_litresThrown), (1140, o, v17), (1141, o, i_pailsThrown)]) J X (ova A [((o + 2), a_now), ((o + 12), a_load), ((o + 13), u5), ((o + 14), rr22.1), ((o + 15), rr22.2), ((o + 17), a_comes)]) B Q H := hR.to rfl rfl rfl (ova_merge (l := [((o + 2), a_now), ((o + 12), a_load), ((o + 13), u5), ((o + 14), a_queue), ((o + 15), a_waits), ((o + 17), a_comes)]) hN_A [3, 4] [((o + 14), rr22.1), ((o + 15), rr22.2)] rfl rfl) rfl rfl
    exact hj122 i_away i_litresThrown v17 i_pailsThrown rr22.1 rr22.2 a_comes hf _ _ _ hR hS (lv_sub hl [1, 2] rfl)
  · have hf := ite_t c9 hf
    refine lv_aload_n hx hb dX14_finishes_20 rfl (lv_at hl 0 rfl) ?_
    refine lv_dup hx hb dX14_finishes_21 rfl ?_
    refine n_geti (v := i_litresThrown) hx hb hts hown hG hR gFi_X14_316_11 shM.1 (ov_get 1 rfl rfl) dX14_finishes_22 ?_
    refine lv_aload_n hx hb dX14_finishes_25 rfl (lv_at hl 0 rfl) ?_
    refine g_getr (b := (o + 12)) hx hb hts hown hG hR gFx_X14_45_11 shM.1 ((shM.2 11 _ rfl).2) dX14_finishes_26 ?_
    refine lv_iload_n hx hb dX14_finishes_29 rfl (lv_at hl 1 rfl) ?_
    obtain ⟨c23, hf⟩ := gd_some hf
    obtain ⟨v24, ev24, hf⟩ := lt_some hf
    refine n_iald (x := a_load) hx hb hG hR k_a_load c23 (ova_get 1 hN_A rfl) ev24 dX14_finishes_30 ?_
    obtain ⟨v25, ev25, hf⟩ := lt_some hf
    refine n_iadd hx hb ev25 dX14_finishes_31 ?_
    refine n_puti (li' := [(1138, o, i_away), (1139, o, v25), (1140, o, i_spilt), (1141, o, i_pailsThrown)]) hx hb hts hown hG hR hS gPi_X14_316_11 shM.1 1 rfl rfl rfl dX14_finishes_32 (fun H locs hR hS => ?_)
    refine lv_aload_n hx hb dX14_finishes_35 rfl (lv_at hl 0 rfl) ?_
    refine lv_dup hx hb dX14_finishes_36 rfl ?_
    refine n_geti (v := i_pailsThrown) hx hb hts hown hG hR gFi_X14_322_11 shM.1 (ov_get 3 rfl rfl) dX14_finishes_37 ?_
    refine lv_iconst (v := 1) hx hb dX14_finishes_40 li_1 ?_
    obtain ⟨v26, ev26, hf⟩ := lt_some hf
    refine n_iadd hx hb ev26 dX14_finishes_41 ?_
    refine n_puti (li' := [(1138, o, i_away), (1139, o, v25), (1140, o, i_spilt), (1141, o, v26)]) hx hb hts hown hG hR hS gPi_X14_322_11 shM.1 3 rfl rfl rfl dX14_finishes_42 (fun H locs hR hS => ?_)
    refine lv_aload_n hx hb dX14_finishes_45 rfl (lv_at hl 0 rfl) ?_
    refine g_getr (b := (o + 17)) hx hb hts hown hG hR gFx_X14_60_11 shM.1 ((shM.2 16 _ rfl).2) dX14_finishes_46 ?_
    refine lv_aload_n hx hb dX14_finishes_49 rfl (lv_at hl 0 rfl) ?_
    refine n_geti (v := i_away) hx hb hts hown hG hR gFi_X14_313_11 shM.1 (ov_get 0 rfl rfl) dX14_finishes_50 ?_
    refine lv_aload_n hx hb dX14_finishes_53 rfl (lv_at hl 0 rfl) ?_
    refine n_geti (v := i_tick) hx hb hts hown hG hR gFi_X14_307_11 shM.1 ((congrFun (ov_no rfl) _).trans e_i_tick) dX14_finishes_54 ?_
    refine lv_aload_n hx hb dX14_finishes_57 rfl (lv_at hl 0 rfl) ?_
    refine g_getr (b := (o + 2)) hx hb hts hown hG hR gFx_X14_13_11 shM.1 ((shM.2 1 _ rfl).2) dX14_finishes_58 ?_
    refine lv_bipush (v := 7) hx hb dX14_finishes_61 lb_7 ?_
    obtain ⟨c27, hf⟩ := gd_some hf
    obtain ⟨v28, ev28, hf⟩ := lt_some hf
    refine n_iald (x := a_now) hx hb hG hR k_a_now c27 (ova_get 0 hN_A rfl) ev28 dX14_finishes_63 ?_
    obtain ⟨v29, ev29, hf⟩ := lt_some hf
    refine n_iadd hx hb ev29 dX14_finishes_64 ?_
    obtain ⟨c30, hf⟩ := gd_some hf
    obtain ⟨u31, eu31, hf⟩ := lt_some hf
    refine n_iast (la' := [((o + 2), a_now), ((o + 12), a_load), ((o + 13), u5), ((o + 14), a_queue), ((o + 15), a_waits), ((o + 17), u31)]) hx hb hG hR hS k_a_comes c30 hN_A 5 rfl eu31 rfl dX14_finishes_65 (fun H locs hR hS => ?_)
    refine lv_aload_n hx hb dX14_finishes_66 rfl (lv_at hl 0 rfl) ?_
    refine lv_dup hx hb dX14_finishes_67 rfl ?_
    refine n_geti (v := i_away) hx hb hts hown hG hR gFi_X14_313_11 shM.1 (ov_get 0 rfl rfl) dX14_finishes_68 ?_
    refine lv_iconst (v := 1) hx hb dX14_finishes_71 li_1 ?_
    obtain ⟨v32, ev32, hf⟩ := lt_some hf
    refine n_iadd hx hb ev32 dX14_finishes_72 ?_
    refine n_puti (li' := [(1138, o, v32), (1139, o, v25), (1140, o, i_spilt), (1141, o, v26)]) hx hb hts hown hG hR hS gPi_X14_313_11 shM.1 0 rfl rfl rfl dX14_finishes_73 (fun H locs hR hS => ?_)
    refine lv_goto (tgt := 122) hx hb dX14_finishes_76 (by decide) ?_
    exact hj122 v32 v25 i_spilt v26 a_queue a_waits u31 hf _ _ _ hR hS (lv_sub hl [0, 1] rfl)
noncomputable def f14_yards (p1 : Int32) (a_now : Nat → Int32) : Option (Int32) :=
  gd (inb (1 : Int32) 800) <|
  lt (a_now (1 : Int32).toNatClampNeg) fun v2 =>
  lt (p1 - (1 : Int32)) fun v3 =>
  (f14_up v2 v3).bind fun rr4 =>
  some rr4
set_option maxHeartbeats 4000000 in
theorem m14_yards (l : Launch) (G : gG) (K : gK) (I : gI) (J : gJ) (X : gX) (A : gI) (B : gJ) (Q : gX) (o : Nat) (shM : Sh K X o 11 rows11) (p1 : Int32) (a_now : Nat → Int32) (e_a_now : A (o + 2) = a_now) (out : Int32) (hf : f14_yards p1 a_now = some out) : GMet l yX14_yards cX14_yards 2 (some .int) (1) (21) G [.ref o, .int p1] K I J X A B Q (some (.int out)) K I J X A B Q 0 0 := by
  refine GMet.of (y := yX14_yards) rfl (Nat.le_of_ble_eq_true rfl) rfl ?_
  intro p e s m below meth c ls hx hb hr hml hlocks hts hown hname hG hR hl
  have hown : s.vm.findClass RX14 = some m.cls := hown
  have k_a_now : K (o + 2) = some (.inr (0, 800)) := (shM.2 1 _ rfl).1
  have hR : RS G K I J X A B Q s.heap := hR.to rfl rfl rfl rfl rfl rfl
  have hS : va_S (gA G) s.heap s.heap [] := va_S.rf
  have hend : ∀ (pc : Nat) (H : Heap) (locs : List Loc) (ls : Array Slot), decode cX14_yards pc = .ok (.ireturn, 1) → RS G K I J X A B Q H → va_S (gA G) s.heap H locs → W p l e ({ frames := 1, cells := 0, slots := 0, locals := 21 } : Room) s m ([.ref o, .int p1] : List Value).toArray below meth c H locs 0 0 (MQ below (gQ G (some (.int out)) K I J X A B Q) ([.ref o, .int p1] : List Value).toArray s 0 0 (gA G)) (F0 m pc ls [.int out]) := fun pc H locs ls hd hR hS => g_iret hx hb hr hlocks hG hR hS rfl hd
  generalize MQ below (gQ G (some (.int out)) K I J X A B Q) ([.ref o, .int p1] : List Value).toArray s 0 0 (gA G) = Z at hend ⊢
  generalize ([.ref o, .int p1] : List Value).toArray = args at hts hend ⊢
  unfold f14_yards at hf
  refine lv_aload_n hx hb dX14_yards_0 rfl (lv_at hl 0 rfl) ?_
  refine g_getr (b := (o + 2)) hx hb hts hown hG hR gFx_X14_13_11 shM.1 ((shM.2 1 _ rfl).2) dX14_yards_1 ?_
  refine lv_iconst (v := 1) hx hb dX14_yards_4 li_1 ?_
  obtain ⟨c1, hf⟩ := gd_some hf
  obtain ⟨v2, ev2, hf⟩ := lt_some hf
  refine n_iald (x := a_now) hx hb hG hR k_a_now c1 e_a_now ev2 dX14_yards_5 ?_
  refine lv_iload_n hx hb dX14_yards_6 rfl (lv_at hl 1 rfl) ?_
  refine lv_iconst (v := 1) hx hb dX14_yards_7 li_1 ?_
  obtain ⟨v3, ev3, hf⟩ := lt_some hf
  refine n_isub hx hb ev3 dX14_yards_8 ?_
  obtain ⟨rr4, hrr4, hf⟩ := bind_s hf
  refine g0_cS (rm := (0, 0)) (As := [.int v2, .int v3]) (rest := []) ⟨hx, hb, hml, hown, hts⟩ hG hR hS (m14_up l G K I J X A B Q v2 v3 rr4 hrr4) (cwS 2 hts gi_X14_328 rfl rfl rfl hd_X14_up ⟨Nat.le_of_ble_eq_true rfl, Nat.le_of_ble_eq_true rfl⟩) rfl hl.1 (Nat.le_of_ble_eq_true rfl) dX14_yards_9 ⟨Nat.le_refl _, Nat.le_refl _⟩ rfl (fun H locs hR hS => ?_)
  obtain rfl := some_i hf
  exact hend _ _ _ _ dX14_yards_12 hR hS
noncomputable def f14_runTick_e1_0 (x1_0 : Int32 × Int32 × Int32 × (Nat → Int32) × (Nat → Int32) × (Nat → Int32)) : Option (Int32 × Int32 × Int32 × (Nat → Int32) × (Nat → Int32) × (Nat → Int32)) :=
  some x1_0

noncomputable def f14_runTick_j194 (w1_1 : Int32) (j139_i_litresThrown : Int32) (j194_i_well : Int32) (j194_i_drawn : Int32) (j194_a_rest : Nat → Int32) (j194_a_load : Nat → Int32) (j194_a_state : Nat → Int32) : Option ((Int32 × Int32 × Int32 × Int32 × (Nat → Int32) × (Nat → Int32) × (Nat → Int32)) ⊕ (Int32 × Int32 × Int32 × (Nat → Int32) × (Nat → Int32) × (Nat → Int32))) :=
  lt (w1_1 + (1 : Int32)) fun v13 =>
  some (.inl (v13, j194_i_well, j139_i_litresThrown, j194_i_drawn, j194_a_rest, j194_a_load, j194_a_state))

noncomputable def f14_runTick_j139 (i_teamMany : Int32) (a_now : Nat → Int32) (w1_1 : Int32) (w1_i_well : Int32) (w1_i_drawn : Int32) (w1_a_load : Nat → Int32) (j139_i_litresThrown : Int32) (j139_a_rest : Nat → Int32) (j139_a_state : Nat → Int32) : Option ((Int32 × Int32 × Int32 × Int32 × (Nat → Int32) × (Nat → Int32) × (Nat → Int32)) ⊕ (Int32 × Int32 × Int32 × (Nat → Int32) × (Nat → Int32) × (Nat → Int32))) :=
  gd (inb w1_1 12) <|
  lt (j139_a_state w1_1.toNatClampNeg) fun v12 =>
  if v12 = 0 then
    if w1_i_well = 0 then
      f14_runTick_j194 w1_1 j139_i_litresThrown w1_i_well w1_i_drawn j139_a_rest w1_a_load j139_a_state
    else
      (f14_isDrawn i_teamMany j139_a_state).bind fun rr16 =>
      if rr16 = 0 then
        (f14_draws w1_i_well w1_i_drawn a_now).bind fun rr18 =>
        gd (inb w1_1 12) <|
        lt (upd w1_a_load w1_1.toNatClampNeg rr18.1) fun u20 =>
        gd (inb w1_1 12) <|
        lt (upd j139_a_state w1_1.toNatClampNeg (1 : Int32)) fun u22 =>
        gd (inb (4 : Int32) 800) <|
        lt (a_now (4 : Int32).toNatClampNeg) fun v24 =>
        gd (inb w1_1 12) <|
        lt (upd j139_a_rest w1_1.toNatClampNeg v24) fun u26 =>
        f14_runTick_j194 w1_1 j139_i_litresThrown rr18.2.1 rr18.2.2 u26 u20 u22
      else
        f14_runTick_j194 w1_1 j139_i_litresThrown w1_i_well w1_i_drawn j139_a_rest w1_a_load j139_a_state
  else
    f14_runTick_j194 w1_1 j139_i_litresThrown w1_i_well w1_i_drawn j139_a_rest w1_a_load j139_a_state

noncomputable def f14_runTick_s1 (i_teamMany : Int32) (a_now : Nat → Int32) (a_team : Nat → Int32) (w1_1 : Int32) (w1_i_well : Int32) (w1_i_litresThrown : Int32) (w1_i_drawn : Int32) (w1_a_rest : Nat → Int32) (w1_a_load : Nat → Int32) (w1_a_state : Nat → Int32) : Option ((Int32 × Int32 × Int32 × Int32 × (Nat → Int32) × (Nat → Int32) × (Nat → Int32)) ⊕ (Int32 × Int32 × Int32 × (Nat → Int32) × (Nat → Int32) × (Nat → Int32))) :=
  if i_teamMany ≤ w1_1 then
    some (.inr (w1_i_well, w1_i_litresThrown, w1_i_drawn, w1_a_rest, w1_a_load, w1_a_state))
  else
    gd (inb (1 : Int32) 800) <|
    lt (a_now (1 : Int32).toNatClampNeg) fun v4 =>
    gd (inb w1_1 12) <|
    lt (a_team w1_1.toNatClampNeg) fun v6 =>
    (f14_manOf v6 (1 : Int32) a_now).bind fun rr7 =>
    (f14_up v4 rr7).bind fun rr8 =>
    gd (inb w1_1 12) <|
    lt (w1_a_rest w1_1.toNatClampNeg) fun v10 =>
    if v10 ≤ 0 then
      f14_runTick_j139 i_teamMany a_now w1_1 w1_i_well w1_i_drawn w1_a_load w1_i_litresThrown w1_a_rest w1_a_state
    else
      gd (inb w1_1 12) <|
      lt (w1_a_rest w1_1.toNatClampNeg) fun v29 =>
      lt (v29 - (1 : Int32)) fun v30 =>
      gd (inb w1_1 12) <|
      lt (upd w1_a_rest w1_1.toNatClampNeg v30) fun u32 =>
      gd (inb w1_1 12) <|
      lt (u32 w1_1.toNatClampNeg) fun v34 =>
      if v34 = 0 then
        gd (inb w1_1 12) <|
        lt (w1_a_state w1_1.toNatClampNeg) fun v37 =>
        if v37 = (1 : Int32) then
          gd (inb w1_1 12) <|
          lt (upd w1_a_state w1_1.toNatClampNeg (2 : Int32)) fun u55 =>
          gd (inb w1_1 12) <|
          lt (upd u32 w1_1.toNatClampNeg rr8) fun u57 =>
          f14_runTick_j139 i_teamMany a_now w1_1 w1_i_well w1_i_drawn w1_a_load w1_i_litresThrown u57 u55
        else
          gd (inb w1_1 12) <|
          lt (w1_a_state w1_1.toNatClampNeg) fun v40 =>
          if v40 = (2 : Int32) then
            gd (inb w1_1 12) <|
            lt (w1_a_load w1_1.toNatClampNeg) fun v45 =>
            lt (v45 + (1 : Int32)) fun v46 =>
            gd (¬ (2 : Int32) = 0) <|
            lt (v46 / (2 : Int32)) fun v47 =>
            lt (w1_i_litresThrown + v47) fun v49 =>
            gd (inb w1_1 12) <|
            lt (upd w1_a_state w1_1.toNatClampNeg (3 : Int32)) fun u51 =>
            gd (inb w1_1 12) <|
            lt (upd u32 w1_1.toNatClampNeg rr8) fun u53 =>
            f14_runTick_j139 i_teamMany a_now w1_1 w1_i_well w1_i_drawn w1_a_load v49 u53 u51
          else
            gd (inb w1_1 12) <|
            lt (upd w1_a_state w1_1.toNatClampNeg (0 : Int32)) fun u43 =>
            f14_runTick_j139 i_teamMany a_now w1_1 w1_i_well w1_i_drawn w1_a_load w1_i_litresThrown u32 u43
      else
        f14_runTick_j139 i_teamMany a_now w1_1 w1_i_well w1_i_drawn w1_a_load w1_i_litresThrown u32 w1_a_state

noncomputable def f14_runTick (i_teamMany : Int32) (i_well : Int32) (i_litresThrown : Int32) (i_drawn : Int32) (a_now : Nat → Int32) (a_team : Nat → Int32) (a_rest : Nat → Int32) (a_load : Nat → Int32) (a_state : Nat → Int32) : Option (Int32 × Int32 × Int32 × (Nat → Int32) × (Nat → Int32) × (Nat → Int32)) :=
  (whl (fun (s1 : Int32 × Int32 × Int32 × Int32 × (Nat → Int32) × (Nat → Int32) × (Nat → Int32)) => f14_runTick_s1 i_teamMany a_now a_team s1.1 s1.2.1 s1.2.2.1 s1.2.2.2.1 s1.2.2.2.2.1 s1.2.2.2.2.2.1 s1.2.2.2.2.2.2) FU ((0 : Int32), i_well, i_litresThrown, i_drawn, a_rest, a_load, a_state)).bind fun rl1 =>
  f14_runTick_e1_0 rl1
set_option maxHeartbeats 4000000 in
theorem m14_runTick (l : Launch) (G : gG) (K : gK) (I : gI) (J : gJ) (X : gX) (A : gI) (B : gJ) (Q : gX) (o : Nat) (shM : Sh K X o 11 rows11)  (i_teamMany : Int32) (i_well : Int32) (i_litresThrown : Int32) (i_drawn : Int32) (a_now : Nat → Int32) (a_team : Nat → Int32) (a_rest : Nat → Int32) (a_load : Nat → Int32) (a_state : Nat → Int32) (e_i_teamMany : I 1133 o = i_teamMany) (e_i_well : I 1135 o = i_well) (e_i_litresThrown : I 1139 o = i_litresThrown) (e_i_drawn : I 1142 o = i_drawn) (e_a_now : A (o + 2) = a_now) (e_a_team : A (o + 10) = a_team) (e_a_rest : A (o + 11) = a_rest) (e_a_load : A (o + 12) = a_load) (e_a_state : A (o + 18) = a_state) (out : Int32 × Int32 × Int32 × (Nat → Int32) × (Nat → Int32) × (Nat → Int32)) (hf : f14_runTick i_teamMany i_well i_litresThrown i_drawn a_now a_team a_rest a_load a_state = some out) : GMet l yX14_runTick cX14_runTick 3 none (1) (22) G [.ref o] K I J X A B Q none K (ov I [(1135, o, out.1), (1139, o, out.2.1), (1142, o, out.2.2.1)]) J X (ova A [((o + 2), a_now), ((o + 10), a_team), ((o + 11), out.2.2.2.1), ((o + 12), out.2.2.2.2.1), ((o + 18), out.2.2.2.2.2)]) B Q 0 0 := by
  refine GMet.of (y := yX14_runTick) rfl (Nat.le_of_ble_eq_true rfl) rfl ?_
  intro p e s m below meth c ls hx hb hr hml hlocks hts hown hname hG hR hl
  have hown : s.vm.findClass RX14 = some m.cls := hown
  have k_a_now : K (o + 2) = some (.inr (0, 800)) := (shM.2 1 _ rfl).1
  have k_a_team : K (o + 10) = some (.inr (0, 12)) := (shM.2 9 _ rfl).1
  have k_a_rest : K (o + 11) = some (.inr (0, 12)) := (shM.2 10 _ rfl).1
  have k_a_load : K (o + 12) = some (.inr (0, 12)) := (shM.2 11 _ rfl).1
  have k_a_state : K (o + 18) = some (.inr (0, 12)) := (shM.2 17 _ rfl).1
  have hN_A : nda [(o + 2), (o + 10), (o + 11), (o + 12), (o + 18)] := nd_off o [2, 10, 11, 12, 18] rfl
  have hR : RS G K (ov I [(1135, o, i_well), (1139, o, i_litresThrown), (1142, o, i_drawn)]) J X (ova A [((o + 2), a_now), ((o + 10), a_team), ((o + 11), a_rest), ((o + 12), a_load), ((o + 18), a_state)]) B Q s.heap := hR.to (Eq.symm (ov_sc e_i_well (ov_sc e_i_litresThrown (ov_sc e_i_drawn rfl)))) rfl rfl (Eq.symm (ova_sc e_a_now (ova_sc e_a_team (ova_sc e_a_rest (ova_sc e_a_load (ova_sc e_a_state rfl)))))) rfl rfl
  have hS : va_S (gA G) s.heap s.heap [] := va_S.rf
  have hend : ∀ (pc : Nat) (H : Heap) (locs : List Loc) (ls : Array Slot), decode cX14_runTick pc = .ok (.return_, 1) → RS G K (ov I [(1135, o, out.1), (1139, o, out.2.1), (1142, o, out.2.2.1)]) J X (ova A [((o + 2), a_now), ((o + 10), a_team), ((o + 11), out.2.2.2.1), ((o + 12), out.2.2.2.2.1), ((o + 18), out.2.2.2.2.2)]) B Q H → va_S (gA G) s.heap H locs → W p l e ({ frames := 1, cells := 0, slots := 0, locals := 22 } : Room) s m ([.ref o] : List Value).toArray below meth c H locs 0 0 (MQ below (gQ G none K (ov I [(1135, o, out.1), (1139, o, out.2.1), (1142, o, out.2.2.1)]) J X (ova A [((o + 2), a_now), ((o + 10), a_team), ((o + 11), out.2.2.2.1), ((o + 12), out.2.2.2.2.1), ((o + 18), out.2.2.2.2.2)]) B Q) ([.ref o] : List Value).toArray s 0 0 (gA G)) (F0 m pc ls []) := fun pc H locs ls hd hR hS => g_vret hx hb hr hlocks hG hR hS rfl hd
  generalize MQ below (gQ G none K (ov I [(1135, o, out.1), (1139, o, out.2.1), (1142, o, out.2.2.1)]) J X (ova A [((o + 2), a_now), ((o + 10), a_team), ((o + 11), out.2.2.2.1), ((o + 12), out.2.2.2.2.1), ((o + 18), out.2.2.2.2.2)]) B Q) ([.ref o] : List Value).toArray s 0 0 (gA G) = Z at hend ⊢
  generalize ([.ref o] : List Value).toArray = args at hts hend ⊢
  unfold f14_runTick at hf
  refine lv_iconst (v := 0) hx hb dX14_runTick_0 li_0 ?_
  refine lv_istore_n (lv' := [(1, .int (0 : Int32)), (0, .ref o)]) hx hb dX14_runTick_1 rfl hl (by decide) rfl (fun ls hl => ?_)
  obtain ⟨rl1, hw1, hfo1⟩ := bind_s hf
  have hx1_0 : ∀ (x1_0 : Int32 × Int32 × Int32 × (Nat → Int32) × (Nat → Int32) × (Nat → Int32)), f14_runTick_e1_0 x1_0 = some out → ∀ (pc : Nat) (H : Heap) (locs : List Loc) (ls : Array Slot), decode cX14_runTick pc = .ok (.return_, 1) → RS G K (ov I [(1135, o, x1_0.1), (1139, o, x1_0.2.1), (1142, o, x1_0.2.2.1)]) J X (ova A [((o + 2), a_now), ((o + 10), a_team), ((o + 11), x1_0.2.2.2.1), ((o + 12), x1_0.2.2.2.2.1), ((o + 18), x1_0.2.2.2.2.2)]) B Q H → va_S (gA G) s.heap H locs → W p l e ({ frames := 1, cells := 0, slots := 0, locals := 22 } : Room) s m args below meth c H locs 0 0 Z (F0 m pc ls []) := by
    intro x1_0 hf pc H locs ls hd hR hS
    unfold f14_runTick_e1_0 at hf
    obtain rfl := some_i hf
    exact hend _ _ _ _ hd hR hS
  refine whl_walk (P := fun (s1 : Int32 × Int32 × Int32 × Int32 × (Nat → Int32) × (Nat → Int32) × (Nat → Int32)) => ∀ (H : Heap) (locs : List Loc) (ls : Array Slot), RS G K (ov I [(1135, o, s1.2.1), (1139, o, s1.2.2.1), (1142, o, s1.2.2.2.1)]) J X (ova A [((o + 2), a_now), ((o + 10), a_team), ((o + 11), s1.2.2.2.2.1), ((o + 12), s1.2.2.2.2.2.1), ((o + 18), s1.2.2.2.2.2.2)]) B Q H → va_S (gA G) s.heap H locs → lv_has ls 3 [(0, .ref o), (1, .int s1.1)] → W p l e ({ frames := 1, cells := 0, slots := 0, locals := 22 } : Room) s m args below meth c H locs 0 0 Z (F0 m 2 ls [])) (r := rl1) ?_ FU _ hw1 _ _ _ hR hS (lv_sub hl [1, 0] rfl)
  clear hR hS hl hf
  intro s1 o1 hf hk1 H locs ls hR hS hl
  obtain ⟨w1_1, w1_i_well, w1_i_litresThrown, w1_i_drawn, w1_a_rest, w1_a_load, w1_a_state⟩ := s1
  have hf : f14_runTick_s1 i_teamMany a_now a_team w1_1 w1_i_well w1_i_litresThrown w1_i_drawn w1_a_rest w1_a_load w1_a_state = some o1 := hf
  have hR : RS G K (ov I [(1135, o, w1_i_well), (1139, o, w1_i_litresThrown), (1142, o, w1_i_drawn)]) J X (ova A [((o + 2), a_now), ((o + 10), a_team), ((o + 11), w1_a_rest), ((o + 12), w1_a_load), ((o + 18), w1_a_state)]) B Q H := hR
  have hl : lv_has ls 3 [(0, .ref o), (1, .int w1_1)] := hl
  unfold f14_runTick_s1 at hf
  refine lv_iload_n hx hb dX14_runTick_2 rfl (lv_at hl 1 rfl) ?_
  refine lv_aload_n hx hb dX14_runTick_3 rfl (lv_at hl 0 rfl) ?_
  refine n_geti (v := i_teamMany) hx hb hts hown hG hR gFi_X14_304_11 shM.1 ((congrFun (ov_no rfl) _).trans e_i_teamMany) dX14_runTick_4 ?_
  refine lv_icmp_ge (tgt := 200) hx hb dX14_runTick_7 (by decide) (fun c2 => ?_) (fun c2 => ?_)
  · have hf := ite_t c2 hf
    obtain rfl := some_i hf
    replace hk1 : _ = rl1 := hk1
    subst hk1
    exact hx1_0 (w1_i_well, w1_i_litresThrown, w1_i_drawn, w1_a_rest, w1_a_load, w1_a_state) hfo1 _ _ _ _ dX14_runTick_200 hR hS
  · have hf := ite_f c2 hf
    refine lv_aload_n hx hb dX14_runTick_10 rfl (lv_at hl 0 rfl) ?_
    refine g_getr (b := (o + 2)) hx hb hts hown hG hR gFx_X14_13_11 shM.1 ((shM.2 1 _ rfl).2) dX14_runTick_11 ?_
    refine lv_iconst (v := 1) hx hb dX14_runTick_14 li_1 ?_
    obtain ⟨c3, hf⟩ := gd_some hf
    obtain ⟨v4, ev4, hf⟩ := lt_some hf
    refine n_iald (x := a_now) hx hb hG hR k_a_now c3 (ova_get 0 hN_A rfl) ev4 dX14_runTick_15 ?_
    refine lv_aload_n hx hb dX14_runTick_16 rfl (lv_at hl 0 rfl) ?_
    refine lv_aload_n hx hb dX14_runTick_17 rfl (lv_at hl 0 rfl) ?_
    refine g_getr (b := (o + 10)) hx hb hts hown hG hR gFx_X14_39_11 shM.1 ((shM.2 9 _ rfl).2) dX14_runTick_18 ?_
    refine lv_iload_n hx hb dX14_runTick_21 rfl (lv_at hl 1 rfl) ?_
    obtain ⟨c5, hf⟩ := gd_some hf
    obtain ⟨v6, ev6, hf⟩ := lt_some hf
    refine n_iald (x := a_team) hx hb hG hR k_a_team c5 (ova_get 1 hN_A rfl) ev6 dX14_runTick_22 ?_
    refine lv_iconst (v := 1) hx hb dX14_runTick_23 li_1 ?_
    obtain ⟨rr7, hrr7, hf⟩ := bind_s hf
    refine g0_cV (rm := (0, 0)) (As := [.int v6, .int (1 : Int32)]) (rest := [.int v4]) ⟨hx, hb, hml, hown, hts⟩ hG hR hS (m14_manOf l G K (ov I [(1135, o, w1_i_well), (1139, o, w1_i_litresThrown), (1142, o, w1_i_drawn)]) J X (ova A [((o + 2), a_now), ((o + 10), a_team), ((o + 11), w1_a_rest), ((o + 12), w1_a_load), ((o + 18), w1_a_state)]) B Q o shM v6 (1 : Int32) a_now (ova_get 0 hN_A rfl) rr7 hrr7) (cwV 2 hts gi_X14_294 rfl rfl rfl hd_X14_manOf ⟨Nat.le_of_ble_eq_true rfl, Nat.le_of_ble_eq_true rfl⟩) shM.1 rfl rfl hl.1 (Nat.le_of_ble_eq_true rfl) dX14_runTick_24 ⟨Nat.le_refl _, Nat.le_refl _⟩ rfl (fun H locs hR hS => ?_)
    obtain ⟨rr8, hrr8, hf⟩ := bind_s hf
    refine g0_cS (rm := (0, 0)) (As := [.int v4, .int rr7]) (rest := []) ⟨hx, hb, hml, hown, hts⟩ hG hR hS (m14_up l G K (ov I [(1135, o, w1_i_well), (1139, o, w1_i_litresThrown), (1142, o, w1_i_drawn)]) J X (ova A [((o + 2), a_now), ((o + 10), a_team), ((o + 11), w1_a_rest), ((o + 12), w1_a_load), ((o + 18), w1_a_state)]) B Q v4 rr7 rr8 hrr8) (cwS 2 hts gi_X14_328 rfl rfl rfl hd_X14_up ⟨Nat.le_of_ble_eq_true rfl, Nat.le_of_ble_eq_true rfl⟩) rfl hl.1 (Nat.le_of_ble_eq_true rfl) dX14_runTick_27 ⟨Nat.le_refl _, Nat.le_refl _⟩ rfl (fun H locs hR hS => ?_)
    refine lv_istore_n (lv' := [(2, .int rr8), (0, .ref o), (1, .int w1_1)]) hx hb dX14_runTick_30 rfl hl (by decide) rfl (fun ls hl => ?_)
    refine lv_aload_n hx hb dX14_runTick_31 rfl (lv_at hl 1 rfl) ?_
    refine g_getr (b := (o + 11)) hx hb hts hown hG hR gFx_X14_42_11 shM.1 ((shM.2 10 _ rfl).2) dX14_runTick_32 ?_
    refine lv_iload_n hx hb dX14_runTick_35 rfl (lv_at hl 2 rfl) ?_
    obtain ⟨c9, hf⟩ := gd_some hf
    obtain ⟨v10, ev10, hf⟩ := lt_some hf
    refine n_iald (x := w1_a_rest) hx hb hG hR k_a_rest c9 (ova_get 2 hN_A rfl) ev10 dX14_runTick_36 ?_
    have hj139 : ∀ (j139_i_litresThrown : Int32) (j139_a_rest : Nat → Int32) (j139_a_state : Nat → Int32), f14_runTick_j139 i_teamMany a_now w1_1 w1_i_well w1_i_drawn w1_a_load j139_i_litresThrown j139_a_rest j139_a_state = some o1 → ∀ (H : Heap) (locs : List Loc) (ls : Array Slot), RS G K (ov I [(1135, o, w1_i_well), (1139, o, j139_i_litresThrown), (1142, o, w1_i_drawn)]) J X (ova A [((o + 2), a_now), ((o + 10), a_team), ((o + 11), j139_a_rest), ((o + 12), w1_a_load), ((o + 18), j139_a_state)]) B Q H → va_S (gA G) s.heap H locs → lv_has ls 3 [(0, .ref o), (1, .int w1_1)] → W p l e ({ frames := 1, cells := 0, slots := 0, locals := 22 } : Room) s m args below meth c H locs 0 0 Z (F0 m 139 ls []) := by
      intro j139_i_litresThrown j139_a_rest j139_a_state hf H locs ls hR hS hl
      unfold f14_runTick_j139 at hf
      refine lv_aload_n hx hb dX14_runTick_139 rfl (lv_at hl 0 rfl) ?_
      refine g_getr (b := (o + 18)) hx hb hts hown hG hR gFx_X14_63_11 shM.1 ((shM.2 17 _ rfl).2) dX14_runTick_140 ?_
      refine lv_iload_n hx hb dX14_runTick_143 rfl (lv_at hl 1 rfl) ?_
      obtain ⟨c11, hf⟩ := gd_some hf
      obtain ⟨v12, ev12, hf⟩ := lt_some hf
      refine n_iald (x := j139_a_state) hx hb hG hR k_a_state c11 (ova_get 4 hN_A rfl) ev12 dX14_runTick_144 ?_
      have hj194 : ∀ (j194_i_well : Int32) (j194_i_drawn : Int32) (j194_a_rest : Nat → Int32) (j194_a_load : Nat → Int32) (j194_a_state : Nat → Int32), f14_runTick_j194 w1_1 j139_i_litresThrown j194_i_well j194_i_drawn j194_a_rest j194_a_load j194_a_state = some o1 → ∀ (H : Heap) (locs : List Loc) (ls : Array Slot), RS G K (ov I [(1135, o, j194_i_well), (1139, o, j139_i_litresThrown), (1142, o, j194_i_drawn)]) J X (ova A [((o + 2), a_now), ((o + 10), a_team), ((o + 11), j194_a_rest), ((o + 12), j194_a_load), ((o + 18), j194_a_state)]) B Q H → va_S (gA G) s.heap H locs → lv_has ls 3 [(0, .ref o), (1, .int w1_1)] → W p l e ({ frames := 1, cells := 0, slots := 0, locals := 22 } : Room) s m args below meth c H locs 0 0 Z (F0 m 194 ls []) := by
        intro j194_i_well j194_i_drawn j194_a_rest j194_a_load j194_a_state hf H locs ls hR hS hl
        unfold f14_runTick_j194 at hf
        obtain ⟨v13, ev13, hf⟩ := lt_some hf
        refine lv_iinc (k := 1) (v := v13) (lv' := [(1, .int v13), (0, .ref o)]) hx hb dX14_runTick_194 hl rfl (by rw [ev13]; rfl) (by decide) rfl (fun ls hl => ?_)
        refine lv_goto (tgt := 2) hx hb dX14_runTick_197 (by decide) ?_
        obtain rfl := some_i hf
        exact hk1 _ _ _ hR hS (lv_sub hl [1, 0] rfl)
      refine lv_if_ne (tgt := 194) hx hb dX14_runTick_145 (by decide) (fun c14 => ?_) (fun c14 => ?_)
      · have hf := ite_f c14 hf
        exact hj194 w1_i_well w1_i_drawn j139_a_rest w1_a_load j139_a_state hf _ _ _ hR hS (lv_sub hl [0, 1] rfl)
      · have hf := ite_t c14 hf
        refine lv_aload_n hx hb dX14_runTick_148 rfl (lv_at hl 0 rfl) ?_
        refine n_geti (v := w1_i_well) hx hb hts hown hG hR gFi_X14_334_11 shM.1 (ov_get 0 rfl rfl) dX14_runTick_149 ?_
        refine lv_if_eq (tgt := 194) hx hb dX14_runTick_152 (by decide) (fun c15 => ?_) (fun c15 => ?_)
        · have hf := ite_t c15 hf
          exact hj194 w1_i_well w1_i_drawn j139_a_rest w1_a_load j139_a_state hf _ _ _ hR hS (lv_sub hl [0, 1] rfl)
        · have hf := ite_f c15 hf
          refine lv_aload_n hx hb dX14_runTick_155 rfl (lv_at hl 0 rfl) ?_
          obtain ⟨rr16, hrr16, hf⟩ := bind_s hf
          refine g0_cV (rm := (0, 0)) (As := []) (rest := []) ⟨hx, hb, hml, hown, hts⟩ hG hR hS (m14_isDrawn l G K (ov I [(1135, o, w1_i_well), (1139, o, j139_i_litresThrown), (1142, o, w1_i_drawn)]) J X (ova A [((o + 2), a_now), ((o + 10), a_team), ((o + 11), j139_a_rest), ((o + 12), w1_a_load), ((o + 18), j139_a_state)]) B Q o shM i_teamMany j139_a_state ((congrFun (ov_no rfl) _).trans e_i_teamMany) (ova_get 4 hN_A rfl) rr16 hrr16) (cwV 0 hts gi_X14_357 rfl rfl rfl hd_X14_isDrawn ⟨Nat.le_of_ble_eq_true rfl, Nat.le_of_ble_eq_true rfl⟩) shM.1 rfl rfl hl.1 (Nat.le_of_ble_eq_true rfl) dX14_runTick_156 ⟨Nat.le_refl _, Nat.le_refl _⟩ rfl (fun H locs hR hS => ?_)
          refine lv_if_eq (tgt := 165) hx hb dX14_runTick_159 (by decide) (fun c17 => ?_) (fun c17 => ?_)
          · have hf := ite_t c17 hf
            refine lv_aload_n hx hb dX14_runTick_165 rfl (lv_at hl 0 rfl) ?_
            refine g_getr (b := (o + 12)) hx hb hts hown hG hR gFx_X14_45_11 shM.1 ((shM.2 11 _ rfl).2) dX14_runTick_166 ?_
            refine lv_iload_n hx hb dX14_runTick_169 rfl (lv_at hl 1 rfl) ?_
            refine lv_aload_n hx hb dX14_runTick_170 rfl (lv_at hl 0 rfl) ?_
            obtain ⟨rr18, hrr18, hf⟩ := bind_s hf
            refine g0_cV (rm := (0, 0)) (As := []) (rest := [.int w1_1, .ref (o + 12)]) ⟨hx, hb, hml, hown, hts⟩ hG hR hS (m14_draws l G K (ov I [(1135, o, w1_i_well), (1139, o, j139_i_litresThrown), (1142, o, w1_i_drawn)]) J X (ova A [((o + 2), a_now), ((o + 10), a_team), ((o + 11), j139_a_rest), ((o + 12), w1_a_load), ((o + 18), j139_a_state)]) B Q o shM w1_i_well w1_i_drawn a_now (ov_get 0 rfl rfl) (ov_get 2 rfl rfl) (ova_get 0 hN_A rfl) rr18 hrr18) (cwV 0 hts gi_X14_341 rfl rfl rfl hd_X14_draws ⟨Nat.le_of_ble_eq_true rfl, Nat.le_of_ble_eq_true rfl⟩) shM.1 rfl rfl hl.1 (Nat.le_of_ble_eq_true rfl) dX14_runTick_171 ⟨Nat.le_refl _, Nat.le_refl _⟩ rfl (fun H locs hR hS => ?_)
            have hR : RS G K (ov I [(1135, o, rr18.2.1), (1139, o, j139_i_litresThrown), (1142, o, rr18.2.2)]) J X (ova A [((o + 2), a_now), ((o + 10), a_team), ((o + 11), j139_a_rest), ((o + 12), w1_a_load), ((o + 18), j139_a_state)]) B Q H := hR.to (ov_merge (l := [(1135, o, w1_i_well), (1139, o, j139_i_litresThrown), (1142, o, w1_i_drawn)]) rfl [0, 2] [(1135, o, rr18.2.1), (1142, o, rr18.2.2)] rfl rfl) rfl rfl rfl rfl rfl
            obtain ⟨c19, hf⟩ := gd_some hf
            obtain ⟨u20, eu20, hf⟩ := lt_some hf
            refine n_iast (la' := [((o + 2), a_now), ((o + 10), a_team), ((o + 11), j139_a_rest), ((o + 12), u20), ((o + 18), j139_a_state)]) hx hb hG hR hS k_a_load c19 hN_A 3 rfl eu20 rfl dX14_runTick_174 (fun H locs hR hS => ?_)
            refine lv_aload_n hx hb dX14_runTick_175 rfl (lv_at hl 0 rfl) ?_
            refine g_getr (b := (o + 18)) hx hb hts hown hG hR gFx_X14_63_11 shM.1 ((shM.2 17 _ rfl).2) dX14_runTick_176 ?_
            refine lv_iload_n hx hb dX14_runTick_179 rfl (lv_at hl 1 rfl) ?_
            refine lv_iconst (v := 1) hx hb dX14_runTick_180 li_1 ?_
            obtain ⟨c21, hf⟩ := gd_some hf
            obtain ⟨u22, eu22, hf⟩ := lt_some hf
            refine n_iast (la' := [((o + 2), a_now), ((o + 10), a_team), ((o + 11), j139_a_rest), ((o + 12), u20), ((o + 18), u22)]) hx hb hG hR hS k_a_state c21 hN_A 4 rfl eu22 rfl dX14_runTick_181 (fun H locs hR hS => ?_)
            refine lv_aload_n hx hb dX14_runTick_182 rfl (lv_at hl 0 rfl) ?_
            refine g_getr (b := (o + 11)) hx hb hts hown hG hR gFx_X14_42_11 shM.1 ((shM.2 10 _ rfl).2) dX14_runTick_183 ?_
            refine lv_iload_n hx hb dX14_runTick_186 rfl (lv_at hl 1 rfl) ?_
            refine lv_aload_n hx hb dX14_runTick_187 rfl (lv_at hl 0 rfl) ?_
            refine g_getr (b := (o + 2)) hx hb hts hown hG hR gFx_X14_13_11 shM.1 ((shM.2 1 _ rfl).2) dX14_runTick_188 ?_
            refine lv_iconst (v := 4) hx hb dX14_runTick_191 li_4 ?_
            obtain ⟨c23, hf⟩ := gd_some hf
            obtain ⟨v24, ev24, hf⟩ := lt_some hf
            refine n_iald (x := a_now) hx hb hG hR k_a_now c23 (ova_get 0 hN_A rfl) ev24 dX14_runTick_192 ?_
            obtain ⟨c25, hf⟩ := gd_some hf
            obtain ⟨u26, eu26, hf⟩ := lt_some hf
            refine n_iast (la' := [((o + 2), a_now), ((o + 10), a_team), ((o + 11), u26), ((o + 12), u20), ((o + 18), u22)]) hx hb hG hR hS k_a_rest c25 hN_A 2 rfl eu26 rfl dX14_runTick_193 (fun H locs hR hS => ?_)
            exact hj194 rr18.2.1 rr18.2.2 u26 u20 u22 hf _ _ _ hR hS (lv_sub hl [0, 1] rfl)
          · have hf := ite_f c17 hf
            refine lv_goto (tgt := 194) hx hb dX14_runTick_162 (by decide) ?_
            exact hj194 w1_i_well w1_i_drawn j139_a_rest w1_a_load j139_a_state hf _ _ _ hR hS (lv_sub hl [0, 1] rfl)
    refine lv_if_le (tgt := 139) hx hb dX14_runTick_37 (by decide) (fun c27 => ?_) (fun c27 => ?_)
    · have hf := ite_t c27 hf
      exact hj139 w1_i_litresThrown w1_a_rest w1_a_state hf _ _ _ hR hS (lv_sub hl [1, 2] rfl)
    · have hf := ite_f c27 hf
      refine lv_aload_n hx hb dX14_runTick_40 rfl (lv_at hl 1 rfl) ?_
      refine g_getr (b := (o + 11)) hx hb hts hown hG hR gFx_X14_42_11 shM.1 ((shM.2 10 _ rfl).2) dX14_runTick_41 ?_
      refine lv_iload_n hx hb dX14_runTick_44 rfl (lv_at hl 2 rfl) ?_
      refine lv_dup2_11 hx hb dX14_runTick_45 rfl rfl ?_
      obtain ⟨c28, hf⟩ := gd_some hf
      obtain ⟨v29, ev29, hf⟩ := lt_some hf
      refine n_iald (x := w1_a_rest) hx hb hG hR k_a_rest c28 (ova_get 2 hN_A rfl) ev29 dX14_runTick_46 ?_
      refine lv_iconst (v := 1) hx hb dX14_runTick_47 li_1 ?_
      obtain ⟨v30, ev30, hf⟩ := lt_some hf
      refine n_isub hx hb ev30 dX14_runTick_48 ?_
      obtain ⟨c31, hf⟩ := gd_some hf
      obtain ⟨u32, eu32, hf⟩ := lt_some hf
      refine n_iast (la' := [((o + 2), a_now), ((o + 10), a_team), ((o + 11), u32), ((o + 12), w1_a_load), ((o + 18), w1_a_state)]) hx hb hG hR hS k_a_rest c31 hN_A 2 rfl eu32 rfl dX14_runTick_49 (fun H locs hR hS => ?_)
      refine lv_aload_n hx hb dX14_runTick_50 rfl (lv_at hl 1 rfl) ?_
      refine g_getr (b := (o + 11)) hx hb hts hown hG hR gFx_X14_42_11 shM.1 ((shM.2 10 _ rfl).2) dX14_runTick_51 ?_
      refine lv_iload_n hx hb dX14_runTick_54 rfl (lv_at hl 2 rfl) ?_
      obtain ⟨c33, hf⟩ := gd_some hf
      obtain ⟨v34, ev34, hf⟩ := lt_some hf
      refine n_iald (x := u32) hx hb hG hR k_a_rest c33 (ova_get 2 hN_A rfl) ev34 dX14_runTick_55 ?_
      refine lv_if_ne (tgt := 139) hx hb dX14_runTick_56 (by decide) (fun c35 => ?_) (fun c35 => ?_)
      · have hf := ite_f c35 hf
        exact hj139 w1_i_litresThrown u32 w1_a_state hf _ _ _ hR hS (lv_sub hl [1, 2] rfl)
      · have hf := ite_t c35 hf
        refine lv_aload_n hx hb dX14_runTick_59 rfl (lv_at hl 1 rfl) ?_
        refine g_getr (b := (o + 18)) hx hb hts hown hG hR gFx_X14_63_11 shM.1 ((shM.2 17 _ rfl).2) dX14_runTick_60 ?_
        refine lv_iload_n hx hb dX14_runTick_63 rfl (lv_at hl 2 rfl) ?_
        obtain ⟨c36, hf⟩ := gd_some hf
        obtain ⟨v37, ev37, hf⟩ := lt_some hf
        refine n_iald (x := w1_a_state) hx hb hG hR k_a_state c36 (ova_get 4 hN_A rfl) ev37 dX14_runTick_64 ?_
        refine lv_iconst (v := 1) hx hb dX14_runTick_65 li_1 ?_
        refine lv_icmp_ne (tgt := 86) hx hb dX14_runTick_66 (by decide) (fun c38 => ?_) (fun c38 => ?_)
        · have hf := ite_f c38 hf
          refine lv_aload_n hx hb dX14_runTick_86 rfl (lv_at hl 1 rfl) ?_
          refine g_getr (b := (o + 18)) hx hb hts hown hG hR gFx_X14_63_11 shM.1 ((shM.2 17 _ rfl).2) dX14_runTick_87 ?_
          refine lv_iload_n hx hb dX14_runTick_90 rfl (lv_at hl 2 rfl) ?_
          obtain ⟨c39, hf⟩ := gd_some hf
          obtain ⟨v40, ev40, hf⟩ := lt_some hf
          refine n_iald (x := w1_a_state) hx hb hG hR k_a_state c39 (ova_get 4 hN_A rfl) ev40 dX14_runTick_91 ?_
          refine lv_iconst (v := 2) hx hb dX14_runTick_92 li_2 ?_
          refine lv_icmp_ne (tgt := 132) hx hb dX14_runTick_93 (by decide) (fun c41 => ?_) (fun c41 => ?_)
          · have hf := ite_f c41 hf
            refine lv_aload_n hx hb dX14_runTick_132 rfl (lv_at hl 1 rfl) ?_
            refine g_getr (b := (o + 18)) hx hb hts hown hG hR gFx_X14_63_11 shM.1 ((shM.2 17 _ rfl).2) dX14_runTick_133 ?_
            refine lv_iload_n hx hb dX14_runTick_136 rfl (lv_at hl 2 rfl) ?_
            refine lv_iconst (v := 0) hx hb dX14_runTick_137 li_0 ?_
            obtain ⟨c42, hf⟩ := gd_some hf
            obtain ⟨u43, eu43, hf⟩ := lt_some hf
            refine n_iast (la' := [((o + 2), a_now), ((o + 10), a_team), ((o + 11), u32), ((o + 12), w1_a_load), ((o + 18), u43)]) hx hb hG hR hS k_a_state c42 hN_A 4 rfl eu43 rfl dX14_runTick_138 (fun H locs hR hS => ?_)
            exact hj139 w1_i_litresThrown u32 u43 hf _ _ _ hR hS (lv_sub hl [1, 2] rfl)
          · have hf := ite_t c41 hf
            refine lv_aload_n hx hb dX14_runTick_96 rfl (lv_at hl 1 rfl) ?_
            refine lv_dup hx hb dX14_runTick_97 rfl ?_
            refine n_geti (v := w1_i_litresThrown) hx hb hts hown hG hR gFi_X14_316_11 shM.1 (ov_get 1 rfl rfl) dX14_runTick_98 ?_
            refine lv_aload_n hx hb dX14_runTick_101 rfl (lv_at hl 1 rfl) ?_
            refine g_getr (b := (o + 12)) hx hb hts hown hG hR gFx_X14_45_11 shM.1 ((shM.2 11 _ rfl).2) dX14_runTick_102 ?_
            refine lv_iload_n hx hb dX14_runTick_105 rfl (lv_at hl 2 rfl) ?_
            obtain ⟨c44, hf⟩ := gd_some hf
            obtain ⟨v45, ev45, hf⟩ := lt_some hf
            refine n_iald (x := w1_a_load) hx hb hG hR k_a_load c44 (ova_get 3 hN_A rfl) ev45 dX14_runTick_106 ?_
            refine lv_iconst (v := 1) hx hb dX14_runTick_107 li_1 ?_
            obtain ⟨v46, ev46, hf⟩ := lt_some hf
            refine n_iadd hx hb ev46 dX14_runTick_108 ?_
            refine lv_iconst (v := 2) hx hb dX14_runTick_109 li_2 ?_
            obtain ⟨c48, hf⟩ := gd_some hf
            obtain ⟨v47, ev47, hf⟩ := lt_some hf
            refine n_idiv hx hb c48 ev47 dX14_runTick_110 ?_
            obtain ⟨v49, ev49, hf⟩ := lt_some hf
            refine n_iadd hx hb ev49 dX14_runTick_111 ?_
            refine n_puti (li' := [(1135, o, w1_i_well), (1139, o, v49), (1142, o, w1_i_drawn)]) hx hb hts hown hG hR hS gPi_X14_316_11 shM.1 1 rfl rfl rfl dX14_runTick_112 (fun H locs hR hS => ?_)
            refine lv_aload_n hx hb dX14_runTick_115 rfl (lv_at hl 1 rfl) ?_
            refine g_getr (b := (o + 18)) hx hb hts hown hG hR gFx_X14_63_11 shM.1 ((shM.2 17 _ rfl).2) dX14_runTick_116 ?_
            refine lv_iload_n hx hb dX14_runTick_119 rfl (lv_at hl 2 rfl) ?_
            refine lv_iconst (v := 3) hx hb dX14_runTick_120 li_3 ?_
            obtain ⟨c50, hf⟩ := gd_some hf
            obtain ⟨u51, eu51, hf⟩ := lt_some hf
            refine n_iast (la' := [((o + 2), a_now), ((o + 10), a_team), ((o + 11), u32), ((o + 12), w1_a_load), ((o + 18), u51)]) hx hb hG hR hS k_a_state c50 hN_A 4 rfl eu51 rfl dX14_runTick_121 (fun H locs hR hS => ?_)
            refine lv_aload_n hx hb dX14_runTick_122 rfl (lv_at hl 1 rfl) ?_
            refine g_getr (b := (o + 11)) hx hb hts hown hG hR gFx_X14_42_11 shM.1 ((shM.2 10 _ rfl).2) dX14_runTick_123 ?_
            refine lv_iload_n hx hb dX14_runTick_126 rfl (lv_at hl 2 rfl) ?_
            refine lv_iload_n hx hb dX14_runTick_127 rfl (lv_at hl 0 rfl) ?_
            obtain ⟨c52, hf⟩ := gd_some hf
            obtain ⟨u53, eu53, hf⟩ := lt_some hf
            refine n_iast (la' := [((o + 2), a_now), ((o + 10), a_team), ((o + 11), u53), ((o + 12), w1_a_load), ((o + 18), u51)]) hx hb hG hR hS k_a_rest c52 hN_A 2 rfl eu53 rfl dX14_runTick_128 (fun H locs hR hS => ?_)
            refine lv_goto (tgt := 139) hx hb dX14_runTick_129 (by decide) ?_
            exact hj139 v49 u53 u51 hf _ _ _ hR hS (lv_sub hl [1, 2] rfl)
        · have hf := ite_t c38 hf
          refine lv_aload_n hx hb dX14_runTick_69 rfl (lv_at hl 1 rfl) ?_
          refine g_getr (b := (o + 18)) hx hb hts hown hG hR gFx_X14_63_11 shM.1 ((shM.2 17 _ rfl).2) dX14_runTick_70 ?_
          refine lv_iload_n hx hb dX14_runTick_73 rfl (lv_at hl 2 rfl) ?_
          refine lv_iconst (v := 2) hx hb dX14_runTick_74 li_2 ?_
          obtain ⟨c54, hf⟩ := gd_some hf
          obtain ⟨u55, eu55, hf⟩ := lt_some hf
          refine n_iast (la' := [((o + 2), a_now), ((o + 10), a_team), ((o + 11), u32), ((o + 12), w1_a_load), ((o + 18), u55)]) hx hb hG hR hS k_a_state c54 hN_A 4 rfl eu55 rfl dX14_runTick_75 (fun H locs hR hS => ?_)
          refine lv_aload_n hx hb dX14_runTick_76 rfl (lv_at hl 1 rfl) ?_
          refine g_getr (b := (o + 11)) hx hb hts hown hG hR gFx_X14_42_11 shM.1 ((shM.2 10 _ rfl).2) dX14_runTick_77 ?_
          refine lv_iload_n hx hb dX14_runTick_80 rfl (lv_at hl 2 rfl) ?_
          refine lv_iload_n hx hb dX14_runTick_81 rfl (lv_at hl 0 rfl) ?_
          obtain ⟨c56, hf⟩ := gd_some hf
          obtain ⟨u57, eu57, hf⟩ := lt_some hf
          refine n_iast (la' := [((o + 2), a_now), ((o + 10), a_team), ((o + 11), u57), ((o + 12), w1_a_load), ((o + 18), u55)]) hx hb hG hR hS k_a_rest c56 hN_A 2 rfl eu57 rfl dX14_runTick_82 (fun H locs hR hS => ?_)
          refine lv_goto (tgt := 139) hx hb dX14_runTick_83 (by decide) ?_
          exact hj139 w1_i_litresThrown u57 u55 hf _ _ _ hR hS (lv_sub hl [1, 2] rfl)
noncomputable def f14_relief_e3_0 (rr1 : Int32 × Int32 × Int32 × Int32 × (Nat → Int32) × (Nat → Int32)) (x3_0 : Int32 × (Nat → Int32)) : Option (Int32 × Int32 × Int32 × Int32 × Int32 × (Nat → Int32) × (Nat → Int32) × (Nat → Int32)) :=
  some (x3_0.1, (0 : Int32), rr1.2.1, rr1.2.2.1, rr1.2.2.2.1, rr1.2.2.2.2.1, rr1.2.2.2.2.2, x3_0.2)

noncomputable def f14_relief_e3_1 (x3_1 : Int32 × Int32 × Int32 × Int32 × Int32 × (Nat → Int32) × (Nat → Int32) × (Nat → Int32)) : Option (Int32 × Int32 × Int32 × Int32 × Int32 × (Nat → Int32) × (Nat → Int32) × (Nat → Int32)) :=
  some x3_1

noncomputable def f14_relief_s3 (rr1 : Int32 × Int32 × Int32 × Int32 × (Nat → Int32) × (Nat → Int32)) (w3_1 : Int32) (w3_a_power : Nat → Int32) : Option ((Int32 × (Nat → Int32)) ⊕ ((Int32 × (Nat → Int32)) ⊕ (Int32 × Int32 × Int32 × Int32 × Int32 × (Nat → Int32) × (Nat → Int32) × (Nat → Int32)))) :=
  if rr1.2.2.2.1 < w3_1 then
    some (.inr (.inr ((-1 : Int32), (0 : Int32), rr1.2.1, rr1.2.2.1, rr1.2.2.2.1, rr1.2.2.2.2.1, rr1.2.2.2.2.2, w3_a_power)))
  else
    (f14_canThrow w3_1 rr1.2.2.2.2.1 rr1.2.2.2.2.2 w3_a_power).bind fun rr5 =>
    if rr5.1 = 0 then
      lt (w3_1 + (1 : Int32)) fun v7 =>
      some (.inl (v7, rr5.2))
    else
      some (.inr (.inl (w3_1, rr5.2)))

noncomputable def f14_relief (i_thrown : Int32) (i_taped : Int32) (i_isBegun : Int32) (i_teamMany : Int32) (a_tape : Nat → Int32) (a_now : Nat → Int32) (a_team : Nat → Int32) (a_power : Nat → Int32) : Option (Int32 × Int32 × Int32 × Int32 × Int32 × (Nat → Int32) × (Nat → Int32) × (Nat → Int32)) :=
  (f14_takesTeam (1 : Int32) (12 : Int32) (1 : Int32) i_taped i_isBegun i_teamMany a_tape a_now a_team).bind fun rr1 =>
  if rr1.1 = 0 then
    some ((-2 : Int32), (0 : Int32), rr1.2.1, rr1.2.2.1, rr1.2.2.2.1, rr1.2.2.2.2.1, rr1.2.2.2.2.2, a_power)
  else
    (whl (fun (s3 : Int32 × (Nat → Int32)) => f14_relief_s3 rr1 s3.1 s3.2) FU ((1 : Int32), a_power)).bind fun rl3 =>
    Sum.elim (f14_relief_e3_0 rr1) (f14_relief_e3_1) rl3
set_option maxHeartbeats 4000000 in
theorem m14_relief (l : Launch) (G : gG) (K : gK) (I : gI) (J : gJ) (X : gX) (A : gI) (B : gJ) (Q : gX) (o : Nat) (shM : Sh K X o 11 rows11)  (i_thrown : Int32) (i_taped : Int32) (i_isBegun : Int32) (i_teamMany : Int32) (a_tape : Nat → Int32) (a_now : Nat → Int32) (a_team : Nat → Int32) (a_power : Nat → Int32) (e_i_thrown : I 1100 o = i_thrown) (e_i_taped : I 1102 o = i_taped) (e_i_isBegun : I 1122 o = i_isBegun) (e_i_teamMany : I 1133 o = i_teamMany) (e_a_tape : A (o + 1) = a_tape) (e_a_now : A (o + 2) = a_now) (e_a_team : A (o + 10) = a_team) (e_a_power : A (o + 27) = a_power) (out : Int32 × Int32 × Int32 × Int32 × Int32 × (Nat → Int32) × (Nat → Int32) × (Nat → Int32)) (hf : f14_relief i_thrown i_taped i_isBegun i_teamMany a_tape a_now a_team a_power = some out) : GMet l yX14_relief cX14_relief 2 (some .int) (3) (66) G [.ref o] K I J X A B Q (some (.int out.1)) K (ov I [(1100, o, out.2.1), (1102, o, out.2.2.1), (1122, o, out.2.2.2.1), (1133, o, out.2.2.2.2.1)]) J X (ova A [((o + 1), a_tape), ((o + 2), out.2.2.2.2.2.1), ((o + 10), out.2.2.2.2.2.2.1), ((o + 27), out.2.2.2.2.2.2.2)]) B Q 0 0 := by
  refine GMet.of (y := yX14_relief) rfl (Nat.le_of_ble_eq_true rfl) rfl ?_
  intro p e s m below meth c ls hx hb hr hml hlocks hts hown hname hG hR hl
  have hown : s.vm.findClass RX14 = some m.cls := hown
  have k_a_tape : K (o + 1) = some (.inr (0, 740)) := (shM.2 0 _ rfl).1
  have k_a_now : K (o + 2) = some (.inr (0, 800)) := (shM.2 1 _ rfl).1
  have k_a_team : K (o + 10) = some (.inr (0, 12)) := (shM.2 9 _ rfl).1
  have k_a_power : K (o + 27) = some (.inr (0, 12)) := (shM.2 26 _ rfl).1
  have hN_A : nda [(o + 1), (o + 2), (o + 10), (o + 27)] := nd_off o [1, 2, 10, 27] rfl
  have hR : RS G K (ov I [(1100, o, i_thrown), (1102, o, i_taped), (1122, o, i_isBegun), (1133, o, i_teamMany)]) J X (ova A [((o + 1), a_tape), ((o + 2), a_now), ((o + 10), a_team), ((o + 27), a_power)]) B Q s.heap := hR.to (Eq.symm (ov_sc e_i_thrown (ov_sc e_i_taped (ov_sc e_i_isBegun (ov_sc e_i_teamMany rfl))))) rfl rfl (Eq.symm (ova_sc e_a_tape (ova_sc e_a_now (ova_sc e_a_team (ova_sc e_a_power rfl))))) rfl rfl
  have hS : va_S (gA G) s.heap s.heap [] := va_S.rf
  have hend : ∀ (pc : Nat) (H : Heap) (locs : List Loc) (ls : Array Slot), decode cX14_relief pc = .ok (.ireturn, 1) → RS G K (ov I [(1100, o, out.2.1), (1102, o, out.2.2.1), (1122, o, out.2.2.2.1), (1133, o, out.2.2.2.2.1)]) J X (ova A [((o + 1), a_tape), ((o + 2), out.2.2.2.2.2.1), ((o + 10), out.2.2.2.2.2.2.1), ((o + 27), out.2.2.2.2.2.2.2)]) B Q H → va_S (gA G) s.heap H locs → W p l e ({ frames := 3, cells := 0, slots := 0, locals := 66 } : Room) s m ([.ref o] : List Value).toArray below meth c H locs 0 0 (MQ below (gQ G (some (.int out.1)) K (ov I [(1100, o, out.2.1), (1102, o, out.2.2.1), (1122, o, out.2.2.2.1), (1133, o, out.2.2.2.2.1)]) J X (ova A [((o + 1), a_tape), ((o + 2), out.2.2.2.2.2.1), ((o + 10), out.2.2.2.2.2.2.1), ((o + 27), out.2.2.2.2.2.2.2)]) B Q) ([.ref o] : List Value).toArray s 0 0 (gA G)) (F0 m pc ls [.int out.1]) := fun pc H locs ls hd hR hS => g_iret hx hb hr hlocks hG hR hS rfl hd
  generalize MQ below (gQ G (some (.int out.1)) K (ov I [(1100, o, out.2.1), (1102, o, out.2.2.1), (1122, o, out.2.2.2.1), (1133, o, out.2.2.2.2.1)]) J X (ova A [((o + 1), a_tape), ((o + 2), out.2.2.2.2.2.1), ((o + 10), out.2.2.2.2.2.2.1), ((o + 27), out.2.2.2.2.2.2.2)]) B Q) ([.ref o] : List Value).toArray s 0 0 (gA G) = Z at hend ⊢
  generalize ([.ref o] : List Value).toArray = args at hts hend ⊢
  unfold f14_relief at hf
  refine lv_aload_n hx hb dX14_relief_0 rfl (lv_at hl 0 rfl) ?_
  refine lv_iconst (v := 0) hx hb dX14_relief_1 li_0 ?_
  refine n_puti (li' := [(1100, o, (0 : Int32)), (1102, o, i_taped), (1122, o, i_isBegun), (1133, o, i_teamMany)]) hx hb hts hown hG hR hS gPi_X14_148_11 shM.1 0 rfl rfl rfl dX14_relief_2 (fun H locs hR hS => ?_)
  refine lv_aload_n hx hb dX14_relief_5 rfl (lv_at hl 0 rfl) ?_
  refine lv_iconst (v := 1) hx hb dX14_relief_6 li_1 ?_
  refine lv_bipush (v := 12) hx hb dX14_relief_7 lb_12 ?_
  refine lv_iconst (v := 1) hx hb dX14_relief_9 li_1 ?_
  obtain ⟨rr1, hrr1, hf⟩ := bind_s hf
  refine g0_cV (rm := (2, 41)) (As := [.int (1 : Int32), .int (12 : Int32), .int (1 : Int32)]) (rest := []) ⟨hx, hb, hml, hown, hts⟩ hG hR hS (m14_takesTeam l G K (ov I [(1100, o, (0 : Int32)), (1102, o, i_taped), (1122, o, i_isBegun), (1133, o, i_teamMany)]) J X (ova A [((o + 1), a_tape), ((o + 2), a_now), ((o + 10), a_team), ((o + 27), a_power)]) B Q o shM (1 : Int32) (12 : Int32) (1 : Int32) i_taped i_isBegun i_teamMany a_tape a_now a_team (ov_get 1 rfl rfl) (ov_get 2 rfl rfl) (ov_get 3 rfl rfl) (ova_get 0 hN_A rfl) (ova_get 1 hN_A rfl) (ova_get 2 hN_A rfl) rr1 hrr1) (cwV 3 hts gi_X14_372 rfl rfl rfl hd_X14_takesTeam ⟨Nat.le_of_ble_eq_true rfl, Nat.le_of_ble_eq_true rfl⟩) shM.1 rfl rfl hl.1 (Nat.le_of_ble_eq_true rfl) dX14_relief_10 ⟨Nat.le_refl _, Nat.le_refl _⟩ rfl (fun H locs hR hS => ?_)
  have hR : RS G K (ov I [(1100, o, (0 : Int32)), (1102, o, rr1.2.1), (1122, o, rr1.2.2.1), (1133, o, rr1.2.2.2.1)]) J X (ova A [((o + 1), a_tape), ((o + 2), rr1.2.2.2.2.1), ((o + 10), rr1.2.2.2.2.2), ((o + 27), a_power)]) B Q H := hR.to (ov_merge (l := [(1100, o, (0 : Int32)), (1102, o, i_taped), (1122, o, i_isBegun), (1133, o, i_teamMany)]) rfl [1, 2, 3] [(1102, o, rr1.2.1), (1122, o, rr1.2.2.1), (1133, o, rr1.2.2.2.1)] rfl rfl) rfl rfl (ova_merge (l := [((o + 1), a_tape), ((o + 2), a_now), ((o + 10), a_team), ((o + 27), a_power)]) hN_A [0, 1, 2] [((o + 1), a_tape), ((o + 2), rr1.2.2.2.2.1), ((o + 10), rr1.2.2.2.2.2)] rfl rfl) rfl rfl
  refine lv_if_ne (tgt := 19) hx hb dX14_relief_13 (by decide) (fun c2 => ?_) (fun c2 => ?_)
  · have hf := ite_f c2 hf
    refine lv_iconst (v := 1) hx hb dX14_relief_19 li_1 ?_
    refine lv_istore_n (lv' := [(1, .int (1 : Int32)), (0, .ref o)]) hx hb dX14_relief_20 rfl hl (by decide) rfl (fun ls hl => ?_)
    obtain ⟨rl3, hw3, hfo3⟩ := bind_s hf
    have hx3_0 : ∀ (x3_0 : Int32 × (Nat → Int32)), f14_relief_e3_0 rr1 x3_0 = some out → ∀ (H : Heap) (locs : List Loc) (ls : Array Slot), RS G K (ov I [(1100, o, (0 : Int32)), (1102, o, rr1.2.1), (1122, o, rr1.2.2.1), (1133, o, rr1.2.2.2.1)]) J X (ova A [((o + 1), a_tape), ((o + 2), rr1.2.2.2.2.1), ((o + 10), rr1.2.2.2.2.2), ((o + 27), x3_0.2)]) B Q H → va_S (gA G) s.heap H locs → lv_has ls 2 [(0, .ref o), (1, .int x3_0.1)] → W p l e ({ frames := 3, cells := 0, slots := 0, locals := 66 } : Room) s m args below meth c H locs 0 0 Z (F0 m 37 ls []) := by
      intro x3_0 hf H locs ls hR hS hl
      unfold f14_relief_e3_0 at hf
      refine lv_iload_n hx hb dX14_relief_37 rfl (lv_at hl 1 rfl) ?_
      obtain rfl := some_i hf
      exact hend _ _ _ _ dX14_relief_38 hR hS
    have hx3_1 : ∀ (x3_1 : Int32 × Int32 × Int32 × Int32 × Int32 × (Nat → Int32) × (Nat → Int32) × (Nat → Int32)), f14_relief_e3_1 x3_1 = some out → ∀ (pc : Nat) (H : Heap) (locs : List Loc) (ls : Array Slot), decode cX14_relief pc = .ok (.ireturn, 1) → RS G K (ov I [(1100, o, x3_1.2.1), (1102, o, x3_1.2.2.1), (1122, o, x3_1.2.2.2.1), (1133, o, x3_1.2.2.2.2.1)]) J X (ova A [((o + 1), a_tape), ((o + 2), x3_1.2.2.2.2.2.1), ((o + 10), x3_1.2.2.2.2.2.2.1), ((o + 27), x3_1.2.2.2.2.2.2.2)]) B Q H → va_S (gA G) s.heap H locs → W p l e ({ frames := 3, cells := 0, slots := 0, locals := 66 } : Room) s m args below meth c H locs 0 0 Z (F0 m pc ls [.int x3_1.1]) := by
      intro x3_1 hf pc H locs ls hd hR hS
      unfold f14_relief_e3_1 at hf
      obtain rfl := some_i hf
      exact hend _ _ _ _ hd hR hS
    refine whl_walk (P := fun (s3 : Int32 × (Nat → Int32)) => ∀ (H : Heap) (locs : List Loc) (ls : Array Slot), RS G K (ov I [(1100, o, (0 : Int32)), (1102, o, rr1.2.1), (1122, o, rr1.2.2.1), (1133, o, rr1.2.2.2.1)]) J X (ova A [((o + 1), a_tape), ((o + 2), rr1.2.2.2.2.1), ((o + 10), rr1.2.2.2.2.2), ((o + 27), s3.2)]) B Q H → va_S (gA G) s.heap H locs → lv_has ls 2 [(0, .ref o), (1, .int s3.1)] → W p l e ({ frames := 3, cells := 0, slots := 0, locals := 66 } : Room) s m args below meth c H locs 0 0 Z (F0 m 21 ls [])) (r := rl3) ?_ FU _ hw3 _ _ _ hR hS (lv_sub hl [1, 0] rfl)
    clear hR hS hl hf
    intro s3 o3 hf hk3 H locs ls hR hS hl
    obtain ⟨w3_1, w3_a_power⟩ := s3
    have hf : f14_relief_s3 rr1 w3_1 w3_a_power = some o3 := hf
    have hR : RS G K (ov I [(1100, o, (0 : Int32)), (1102, o, rr1.2.1), (1122, o, rr1.2.2.1), (1133, o, rr1.2.2.2.1)]) J X (ova A [((o + 1), a_tape), ((o + 2), rr1.2.2.2.2.1), ((o + 10), rr1.2.2.2.2.2), ((o + 27), w3_a_power)]) B Q H := hR
    have hl : lv_has ls 2 [(0, .ref o), (1, .int w3_1)] := hl
    unfold f14_relief_s3 at hf
    refine lv_iload_n hx hb dX14_relief_21 rfl (lv_at hl 1 rfl) ?_
    refine lv_aload_n hx hb dX14_relief_22 rfl (lv_at hl 0 rfl) ?_
    refine n_geti (v := rr1.2.2.2.1) hx hb hts hown hG hR gFi_X14_304_11 shM.1 (ov_get 3 rfl rfl) dX14_relief_23 ?_
    refine lv_icmp_gt (tgt := 45) hx hb dX14_relief_26 (by decide) (fun c4 => ?_) (fun c4 => ?_)
    · have hf := ite_t c4 hf
      refine lv_iconst (v := -1) hx hb dX14_relief_45 li_m1 ?_
      obtain rfl := some_i hf
      replace hk3 : _ = rl3 := hk3
      subst hk3
      exact hx3_1 ((-1 : Int32), (0 : Int32), rr1.2.1, rr1.2.2.1, rr1.2.2.2.1, rr1.2.2.2.2.1, rr1.2.2.2.2.2, w3_a_power) (el_r hfo3) _ _ _ _ dX14_relief_46 hR hS
    · have hf := ite_f c4 hf
      refine lv_aload_n hx hb dX14_relief_29 rfl (lv_at hl 0 rfl) ?_
      refine lv_iload_n hx hb dX14_relief_30 rfl (lv_at hl 1 rfl) ?_
      obtain ⟨rr5, hrr5, hf⟩ := bind_s hf
      refine g0_cV (rm := (1, 22)) (As := [.int w3_1]) (rest := []) ⟨hx, hb, hml, hown, hts⟩ hG hR hS (m14_canThrow l G K (ov I [(1100, o, (0 : Int32)), (1102, o, rr1.2.1), (1122, o, rr1.2.2.1), (1133, o, rr1.2.2.2.1)]) J X (ova A [((o + 1), a_tape), ((o + 2), rr1.2.2.2.2.1), ((o + 10), rr1.2.2.2.2.2), ((o + 27), w3_a_power)]) B Q o shM w3_1 rr1.2.2.2.2.1 rr1.2.2.2.2.2 w3_a_power (ova_get 1 hN_A rfl) (ova_get 2 hN_A rfl) (ova_get 3 hN_A rfl) rr5 hrr5) (cwV 1 hts gi_X14_408 rfl rfl rfl hd_X14_canThrow ⟨Nat.le_of_ble_eq_true rfl, Nat.le_of_ble_eq_true rfl⟩) shM.1 rfl rfl hl.1 (Nat.le_of_ble_eq_true rfl) dX14_relief_31 ⟨Nat.le_refl _, Nat.le_refl _⟩ rfl (fun H locs hR hS => ?_)
      have hR : RS G K (ov I [(1100, o, (0 : Int32)), (1102, o, rr1.2.1), (1122, o, rr1.2.2.1), (1133, o, rr1.2.2.2.1)]) J X (ova A [((o + 1), a_tape), ((o + 2), rr1.2.2.2.2.1), ((o + 10), rr1.2.2.2.2.2), ((o + 27), rr5.2)]) B Q H := hR.to rfl rfl rfl (ova_merge (l := [((o + 1), a_tape), ((o + 2), rr1.2.2.2.2.1), ((o + 10), rr1.2.2.2.2.2), ((o + 27), w3_a_power)]) hN_A [1, 2, 3] [((o + 2), rr1.2.2.2.2.1), ((o + 10), rr1.2.2.2.2.2), ((o + 27), rr5.2)] rfl rfl) rfl rfl
      refine lv_if_eq (tgt := 39) hx hb dX14_relief_34 (by decide) (fun c6 => ?_) (fun c6 => ?_)
      · have hf := ite_t c6 hf
        obtain ⟨v7, ev7, hf⟩ := lt_some hf
        refine lv_iinc (k := 1) (v := v7) (lv' := [(1, .int v7), (0, .ref o)]) hx hb dX14_relief_39 hl rfl (by rw [ev7]; rfl) (by decide) rfl (fun ls hl => ?_)
        refine lv_goto (tgt := 21) hx hb dX14_relief_42 (by decide) ?_
        obtain rfl := some_i hf
        exact hk3 _ _ _ hR hS (lv_sub hl [1, 0] rfl)
      · have hf := ite_f c6 hf
        obtain rfl := some_i hf
        replace hk3 : _ = rl3 := hk3
        subst hk3
        exact hx3_0 (w3_1, rr5.2) (el_l hfo3) _ _ _ hR hS (lv_sub hl [0, 1] rfl)
  · have hf := ite_t c2 hf
    refine lv_bipush (v := -2) hx hb dX14_relief_16 lb_m2 ?_
    obtain rfl := some_i hf
    exact hend _ _ _ _ dX14_relief_18 hR hS
noncomputable def f14_light_e1_0 (x1_0 : Int32 × (Nat → Int32) × (Nat → Int32) × (Nat → Int32)) : Option (Int32 × (Nat → Int32) × (Nat → Int32) × (Nat → Int32)) :=
  some x1_0

noncomputable def f14_light_s1 (a_now : Nat → Int32) (w1_1 : Int32) (w1_a_fuel : Nat → Int32) (w1_a_burn : Nat → Int32) (w1_a_wet : Nat → Int32) : Option ((Int32 × (Nat → Int32) × (Nat → Int32) × (Nat → Int32)) ⊕ (Int32 × (Nat → Int32) × (Nat → Int32) × (Nat → Int32))) :=
  (f14_cells a_now).bind fun rr2 =>
  if rr2 ≤ w1_1 then
    some (.inr ((0 : Int32), w1_a_fuel, w1_a_burn, w1_a_wet))
  else
    lt ((60 : Int32) + w1_1) fun v4 =>
    gd (inb v4 800) <|
    lt (a_now v4.toNatClampNeg) fun v6 =>
    gd (inb w1_1 64) <|
    lt (upd w1_a_fuel w1_1.toNatClampNeg v6) fun u8 =>
    lt ((130 : Int32) + w1_1) fun v9 =>
    gd (inb v9 800) <|
    lt (a_now v9.toNatClampNeg) fun v11 =>
    gd (inb w1_1 64) <|
    lt (upd w1_a_burn w1_1.toNatClampNeg v11) fun u13 =>
    gd (inb w1_1 64) <|
    lt (upd w1_a_wet w1_1.toNatClampNeg (0 : Int32)) fun u15 =>
    lt (w1_1 + (1 : Int32)) fun v16 =>
    some (.inl (v16, u8, u13, u15))

noncomputable def f14_light (i_lost : Int32) (a_now : Nat → Int32) (a_fuel : Nat → Int32) (a_burn : Nat → Int32) (a_wet : Nat → Int32) : Option (Int32 × (Nat → Int32) × (Nat → Int32) × (Nat → Int32)) :=
  (whl (fun (s1 : Int32 × (Nat → Int32) × (Nat → Int32) × (Nat → Int32)) => f14_light_s1 a_now s1.1 s1.2.1 s1.2.2.1 s1.2.2.2) FU ((0 : Int32), a_fuel, a_burn, a_wet)).bind fun rl1 =>
  f14_light_e1_0 rl1
set_option maxHeartbeats 4000000 in
theorem m14_light (l : Launch) (G : gG) (K : gK) (I : gI) (J : gJ) (X : gX) (A : gI) (B : gJ) (Q : gX) (o : Nat) (shM : Sh K X o 11 rows11)  (i_lost : Int32) (a_now : Nat → Int32) (a_fuel : Nat → Int32) (a_burn : Nat → Int32) (a_wet : Nat → Int32) (e_i_lost : I 1170 o = i_lost) (e_a_now : A (o + 2) = a_now) (e_a_fuel : A (o + 32) = a_fuel) (e_a_burn : A (o + 33) = a_burn) (e_a_wet : A (o + 34) = a_wet) (out : Int32 × (Nat → Int32) × (Nat → Int32) × (Nat → Int32)) (hf : f14_light i_lost a_now a_fuel a_burn a_wet = some out) : GMet l yX14_light cX14_light 2 none (1) (20) G [.ref o] K I J X A B Q none K (ov I [(1170, o, out.1)]) J X (ova A [((o + 2), a_now), ((o + 32), out.2.1), ((o + 33), out.2.2.1), ((o + 34), out.2.2.2)]) B Q 0 0 := by
  refine GMet.of (y := yX14_light) rfl (Nat.le_of_ble_eq_true rfl) rfl ?_
  intro p e s m below meth c ls hx hb hr hml hlocks hts hown hname hG hR hl
  have hown : s.vm.findClass RX14 = some m.cls := hown
  have k_a_now : K (o + 2) = some (.inr (0, 800)) := (shM.2 1 _ rfl).1
  have k_a_fuel : K (o + 32) = some (.inr (0, 64)) := (shM.2 31 _ rfl).1
  have k_a_burn : K (o + 33) = some (.inr (0, 64)) := (shM.2 32 _ rfl).1
  have k_a_wet : K (o + 34) = some (.inr (0, 64)) := (shM.2 33 _ rfl).1
  have hN_A : nda [(o + 2), (o + 32), (o + 33), (o + 34)] := nd_off o [2, 32, 33, 34] rfl
  have hR : RS G K (ov I [(1170, o, i_lost)]) J X (ova A [((o + 2), a_now), ((o + 32), a_fuel), ((o + 33), a_burn), ((o + 34), a_wet)]) B Q s.heap := hR.to (Eq.symm (ov_sc e_i_lost rfl)) rfl rfl (Eq.symm (ova_sc e_a_now (ova_sc e_a_fuel (ova_sc e_a_burn (ova_sc e_a_wet rfl))))) rfl rfl
  have hS : va_S (gA G) s.heap s.heap [] := va_S.rf
  have hend : ∀ (pc : Nat) (H : Heap) (locs : List Loc) (ls : Array Slot), decode cX14_light pc = .ok (.return_, 1) → RS G K (ov I [(1170, o, out.1)]) J X (ova A [((o + 2), a_now), ((o + 32), out.2.1), ((o + 33), out.2.2.1), ((o + 34), out.2.2.2)]) B Q H → va_S (gA G) s.heap H locs → W p l e ({ frames := 1, cells := 0, slots := 0, locals := 20 } : Room) s m ([.ref o] : List Value).toArray below meth c H locs 0 0 (MQ below (gQ G none K (ov I [(1170, o, out.1)]) J X (ova A [((o + 2), a_now), ((o + 32), out.2.1), ((o + 33), out.2.2.1), ((o + 34), out.2.2.2)]) B Q) ([.ref o] : List Value).toArray s 0 0 (gA G)) (F0 m pc ls []) := fun pc H locs ls hd hR hS => g_vret hx hb hr hlocks hG hR hS rfl hd
  generalize MQ below (gQ G none K (ov I [(1170, o, out.1)]) J X (ova A [((o + 2), a_now), ((o + 32), out.2.1), ((o + 33), out.2.2.1), ((o + 34), out.2.2.2)]) B Q) ([.ref o] : List Value).toArray s 0 0 (gA G) = Z at hend ⊢
  generalize ([.ref o] : List Value).toArray = args at hts hend ⊢
  unfold f14_light at hf
  refine lv_aload_n hx hb dX14_light_0 rfl (lv_at hl 0 rfl) ?_
  refine lv_iconst (v := 0) hx hb dX14_light_1 li_0 ?_
  refine n_puti (li' := [(1170, o, (0 : Int32))]) hx hb hts hown hG hR hS gPi_X14_423_11 shM.1 0 rfl rfl rfl dX14_light_2 (fun H locs hR hS => ?_)
  refine lv_iconst (v := 0) hx hb dX14_light_5 li_0 ?_
  refine lv_istore_n (lv' := [(1, .int (0 : Int32)), (0, .ref o)]) hx hb dX14_light_6 rfl hl (by decide) rfl (fun ls hl => ?_)
  obtain ⟨rl1, hw1, hfo1⟩ := bind_s hf
  have hx1_0 : ∀ (x1_0 : Int32 × (Nat → Int32) × (Nat → Int32) × (Nat → Int32)), f14_light_e1_0 x1_0 = some out → ∀ (pc : Nat) (H : Heap) (locs : List Loc) (ls : Array Slot), decode cX14_light pc = .ok (.return_, 1) → RS G K (ov I [(1170, o, x1_0.1)]) J X (ova A [((o + 2), a_now), ((o + 32), x1_0.2.1), ((o + 33), x1_0.2.2.1), ((o + 34), x1_0.2.2.2)]) B Q H → va_S (gA G) s.heap H locs → W p l e ({ frames := 1, cells := 0, slots := 0, locals := 20 } : Room) s m args below meth c H locs 0 0 Z (F0 m pc ls []) := by
    intro x1_0 hf pc H locs ls hd hR hS
    unfold f14_light_e1_0 at hf
    obtain rfl := some_i hf
    exact hend _ _ _ _ hd hR hS
  refine whl_walk (P := fun (s1 : Int32 × (Nat → Int32) × (Nat → Int32) × (Nat → Int32)) => ∀ (H : Heap) (locs : List Loc) (ls : Array Slot), RS G K (ov I [(1170, o, (0 : Int32))]) J X (ova A [((o + 2), a_now), ((o + 32), s1.2.1), ((o + 33), s1.2.2.1), ((o + 34), s1.2.2.2)]) B Q H → va_S (gA G) s.heap H locs → lv_has ls 2 [(0, .ref o), (1, .int s1.1)] → W p l e ({ frames := 1, cells := 0, slots := 0, locals := 20 } : Room) s m args below meth c H locs 0 0 Z (F0 m 7 ls [])) (r := rl1) ?_ FU _ hw1 _ _ _ hR hS (lv_sub hl [1, 0] rfl)
  clear hR hS hl hf
  intro s1 o1 hf hk1 H locs ls hR hS hl
  obtain ⟨w1_1, w1_a_fuel, w1_a_burn, w1_a_wet⟩ := s1
  have hf : f14_light_s1 a_now w1_1 w1_a_fuel w1_a_burn w1_a_wet = some o1 := hf
  have hR : RS G K (ov I [(1170, o, (0 : Int32))]) J X (ova A [((o + 2), a_now), ((o + 32), w1_a_fuel), ((o + 33), w1_a_burn), ((o + 34), w1_a_wet)]) B Q H := hR
  have hl : lv_has ls 2 [(0, .ref o), (1, .int w1_1)] := hl
  unfold f14_light_s1 at hf
  refine lv_iload_n hx hb dX14_light_7 rfl (lv_at hl 1 rfl) ?_
  refine lv_aload_n hx hb dX14_light_8 rfl (lv_at hl 0 rfl) ?_
  obtain ⟨rr2, hrr2, hf⟩ := bind_s hf
  refine g0_cV (rm := (0, 0)) (As := []) (rest := [.int w1_1]) ⟨hx, hb, hml, hown, hts⟩ hG hR hS (m14_cells l G K (ov I [(1170, o, (0 : Int32))]) J X (ova A [((o + 2), a_now), ((o + 32), w1_a_fuel), ((o + 33), w1_a_burn), ((o + 34), w1_a_wet)]) B Q o shM a_now (ova_get 0 hN_A rfl) rr2 hrr2) (cwV 0 hts gi_X14_426 rfl rfl rfl hd_X14_cells ⟨Nat.le_of_ble_eq_true rfl, Nat.le_of_ble_eq_true rfl⟩) shM.1 rfl rfl hl.1 (Nat.le_of_ble_eq_true rfl) dX14_light_9 ⟨Nat.le_refl _, Nat.le_refl _⟩ rfl (fun H locs hR hS => ?_)
  refine lv_icmp_ge (tgt := 59) hx hb dX14_light_12 (by decide) (fun c3 => ?_) (fun c3 => ?_)
  · have hf := ite_t c3 hf
    obtain rfl := some_i hf
    replace hk1 : _ = rl1 := hk1
    subst hk1
    exact hx1_0 ((0 : Int32), w1_a_fuel, w1_a_burn, w1_a_wet) hfo1 _ _ _ _ dX14_light_59 hR hS
  · have hf := ite_f c3 hf
    refine lv_aload_n hx hb dX14_light_15 rfl (lv_at hl 0 rfl) ?_
    refine g_getr (b := (o + 32)) hx hb hts hown hG hR gFx_X14_105_11 shM.1 ((shM.2 31 _ rfl).2) dX14_light_16 ?_
    refine lv_iload_n hx hb dX14_light_19 rfl (lv_at hl 1 rfl) ?_
    refine lv_aload_n hx hb dX14_light_20 rfl (lv_at hl 0 rfl) ?_
    refine g_getr (b := (o + 2)) hx hb hts hown hG hR gFx_X14_13_11 shM.1 ((shM.2 1 _ rfl).2) dX14_light_21 ?_
    refine lv_bipush (v := 60) hx hb dX14_light_24 lb_60 ?_
    refine lv_iload_n hx hb dX14_light_26 rfl (lv_at hl 1 rfl) ?_
    obtain ⟨v4, ev4, hf⟩ := lt_some hf
    refine n_iadd hx hb ev4 dX14_light_27 ?_
    obtain ⟨c5, hf⟩ := gd_some hf
    obtain ⟨v6, ev6, hf⟩ := lt_some hf
    refine n_iald (x := a_now) hx hb hG hR k_a_now c5 (ova_get 0 hN_A rfl) ev6 dX14_light_28 ?_
    obtain ⟨c7, hf⟩ := gd_some hf
    obtain ⟨u8, eu8, hf⟩ := lt_some hf
    refine n_iast (la' := [((o + 2), a_now), ((o + 32), u8), ((o + 33), w1_a_burn), ((o + 34), w1_a_wet)]) hx hb hG hR hS k_a_fuel c7 hN_A 1 rfl eu8 rfl dX14_light_29 (fun H locs hR hS => ?_)
    refine lv_aload_n hx hb dX14_light_30 rfl (lv_at hl 0 rfl) ?_
    refine g_getr (b := (o + 33)) hx hb hts hown hG hR gFx_X14_108_11 shM.1 ((shM.2 32 _ rfl).2) dX14_light_31 ?_
    refine lv_iload_n hx hb dX14_light_34 rfl (lv_at hl 1 rfl) ?_
    refine lv_aload_n hx hb dX14_light_35 rfl (lv_at hl 0 rfl) ?_
    refine g_getr (b := (o + 2)) hx hb hts hown hG hR gFx_X14_13_11 shM.1 ((shM.2 1 _ rfl).2) dX14_light_36 ?_
    refine lv_sipush (v := 130) hx hb dX14_light_39 ls_130 ?_
    refine lv_iload_n hx hb dX14_light_42 rfl (lv_at hl 1 rfl) ?_
    obtain ⟨v9, ev9, hf⟩ := lt_some hf
    refine n_iadd hx hb ev9 dX14_light_43 ?_
    obtain ⟨c10, hf⟩ := gd_some hf
    obtain ⟨v11, ev11, hf⟩ := lt_some hf
    refine n_iald (x := a_now) hx hb hG hR k_a_now c10 (ova_get 0 hN_A rfl) ev11 dX14_light_44 ?_
    obtain ⟨c12, hf⟩ := gd_some hf
    obtain ⟨u13, eu13, hf⟩ := lt_some hf
    refine n_iast (la' := [((o + 2), a_now), ((o + 32), u8), ((o + 33), u13), ((o + 34), w1_a_wet)]) hx hb hG hR hS k_a_burn c12 hN_A 2 rfl eu13 rfl dX14_light_45 (fun H locs hR hS => ?_)
    refine lv_aload_n hx hb dX14_light_46 rfl (lv_at hl 0 rfl) ?_
    refine g_getr (b := (o + 34)) hx hb hts hown hG hR gFx_X14_111_11 shM.1 ((shM.2 33 _ rfl).2) dX14_light_47 ?_
    refine lv_iload_n hx hb dX14_light_50 rfl (lv_at hl 1 rfl) ?_
    refine lv_iconst (v := 0) hx hb dX14_light_51 li_0 ?_
    obtain ⟨c14, hf⟩ := gd_some hf
    obtain ⟨u15, eu15, hf⟩ := lt_some hf
    refine n_iast (la' := [((o + 2), a_now), ((o + 32), u8), ((o + 33), u13), ((o + 34), u15)]) hx hb hG hR hS k_a_wet c14 hN_A 3 rfl eu15 rfl dX14_light_52 (fun H locs hR hS => ?_)
    obtain ⟨v16, ev16, hf⟩ := lt_some hf
    refine lv_iinc (k := 1) (v := v16) (lv' := [(1, .int v16), (0, .ref o)]) hx hb dX14_light_53 hl rfl (by rw [ev16]; rfl) (by decide) rfl (fun ls hl => ?_)
    refine lv_goto (tgt := 7) hx hb dX14_light_56 (by decide) ?_
    obtain rfl := some_i hf
    exact hk1 _ _ _ hR hS (lv_sub hl [1, 0] rfl)
noncomputable def f14_heatOf_e9_0 (x9_0 : Int32) : Option (Int32) :=
  some x9_0

noncomputable def f14_heatOf_j130 (w9_6 : Int32) (j130_5 : Int32) : Option ((Int32 × Int32) ⊕ (Int32)) :=
  lt (w9_6 + (1 : Int32)) fun v12 =>
  some (.inl (j130_5, v12))

noncomputable def f14_heatOf_j113 (p4 : Int32) (n2 : Nat) (x2 : Nat → Int32) (w9_5 : Int32) (w9_6 : Int32) (rr11 : Int32) (j113_s0 : Int32) : Option ((Int32 × Int32) ⊕ (Int32)) :=
  lt (p4 + rr11) fun v20 =>
  gd (inb v20 n2) <|
  lt (x2 v20.toNatClampNeg) fun v22 =>
  lt (j113_s0 * v22) fun v23 =>
  lt (w9_5 + v23) fun v24 =>
  f14_heatOf_j130 w9_6 v24

noncomputable def f14_heatOf_s9 (p1 : Int32) (p4 : Int32) (n2 : Nat) (n3 : Nat) (a_now : Nat → Int32) (x2 : Nat → Int32) (x3 : Nat → Int32) (w9_5 : Int32) (w9_6 : Int32) : Option ((Int32 × Int32) ⊕ (Int32)) :=
  if (4 : Int32) ≤ w9_6 then
    some (.inr w9_5)
  else
    (f14_neighbour p1 w9_6 a_now).bind fun rr11 =>
    if rr11 = (-1 : Int32) then
      f14_heatOf_j130 w9_6 w9_5
    else
      lt (p4 + rr11) fun v14 =>
      gd (inb v14 n3) <|
      lt (x3 v14.toNatClampNeg) fun v16 =>
      if v16 = 0 then
        f14_heatOf_j130 w9_6 w9_5
      else
        gd (inb (11 : Int32) 800) <|
        lt (a_now (11 : Int32).toNatClampNeg) fun v19 =>
        if v19 = (-1 : Int32) then
          f14_heatOf_j113 p4 n2 x2 w9_5 w9_6 rr11 (1 : Int32)
        else
          gd (inb (11 : Int32) 800) <|
          lt (a_now (11 : Int32).toNatClampNeg) fun v27 =>
          lt (w9_6 + (2 : Int32)) fun v28 =>
          gd (¬ (4 : Int32) = 0) <|
          lt (v28 - v28 / (4 : Int32) * (4 : Int32)) fun v29 =>
          if v27 = v29 then
            f14_heatOf_j113 p4 n2 x2 w9_5 w9_6 rr11 (2 : Int32)
          else
            gd (inb (11 : Int32) 800) <|
            lt (a_now (11 : Int32).toNatClampNeg) fun v33 =>
            if v33 = w9_6 then
              f14_heatOf_j113 p4 n2 x2 w9_5 w9_6 rr11 (0 : Int32)
            else
              f14_heatOf_j113 p4 n2 x2 w9_5 w9_6 rr11 (1 : Int32)

noncomputable def f14_heatOf (p1 : Int32) (p4 : Int32) (n2 : Nat) (n3 : Nat) (a_now : Nat → Int32) (x2 : Nat → Int32) (x3 : Nat → Int32) : Option (Int32) :=
  lt (p4 + p1) fun v1 =>
  gd (inb v1 n3) <|
  lt (x3 v1.toNatClampNeg) fun v3 =>
  if v3 = (1 : Int32) then
    some (0 : Int32)
  else
    lt (p4 + p1) fun v5 =>
    gd (inb v5 n2) <|
    lt (x2 v5.toNatClampNeg) fun v7 =>
    if v7 = 0 then
      some (0 : Int32)
    else
      (whl (fun (s9 : Int32 × Int32) => f14_heatOf_s9 p1 p4 n2 n3 a_now x2 x3 s9.1 s9.2) FU ((0 : Int32), (0 : Int32))).bind fun rl9 =>
      f14_heatOf_e9_0 rl9
set_option maxHeartbeats 4000000 in
theorem m14_heatOf (l : Launch) (G : gG) (K : gK) (I : gI) (J : gJ) (X : gX) (A : gI) (B : gJ) (Q : gX) (o : Nat) (shM : Sh K X o 11 rows11) (r2 n2 : Nat) (k_x2 : K r2 = some (.inr (0, n2))) (r3 n3 : Nat) (k_x3 : K r3 = some (.inr (0, n3))) (p1 : Int32) (p4 : Int32) (a_now : Nat → Int32) (x2 : Nat → Int32) (x3 : Nat → Int32) (e_a_now : A (o + 2) = a_now) (e_x2 : A r2 = x2) (e_x3 : A r3 = x3) (out : Int32) (hf : f14_heatOf p1 p4 n2 n3 a_now x2 x3 = some out) : GMet l yX14_heatOf cX14_heatOf 9 (some .int) (2) (44) G [.ref o, .int p1, .ref r2, .ref r3, .int p4] K I J X A B Q (some (.int out)) K I J X A B Q 0 0 := by
  refine GMet.of (y := yX14_heatOf) rfl (Nat.le_of_ble_eq_true rfl) rfl ?_
  intro p e s m below meth c ls hx hb hr hml hlocks hts hown hname hG hR hl
  have hown : s.vm.findClass RX14 = some m.cls := hown
  have k_a_now : K (o + 2) = some (.inr (0, 800)) := (shM.2 1 _ rfl).1
  have hR : RS G K I J X A B Q s.heap := hR.to rfl rfl rfl rfl rfl rfl
  have hS : va_S (gA G) s.heap s.heap [] := va_S.rf
  have hend : ∀ (pc : Nat) (H : Heap) (locs : List Loc) (ls : Array Slot), decode cX14_heatOf pc = .ok (.ireturn, 1) → RS G K I J X A B Q H → va_S (gA G) s.heap H locs → W p l e ({ frames := 2, cells := 0, slots := 0, locals := 44 } : Room) s m ([.ref o, .int p1, .ref r2, .ref r3, .int p4] : List Value).toArray below meth c H locs 0 0 (MQ below (gQ G (some (.int out)) K I J X A B Q) ([.ref o, .int p1, .ref r2, .ref r3, .int p4] : List Value).toArray s 0 0 (gA G)) (F0 m pc ls [.int out]) := fun pc H locs ls hd hR hS => g_iret hx hb hr hlocks hG hR hS rfl hd
  generalize MQ below (gQ G (some (.int out)) K I J X A B Q) ([.ref o, .int p1, .ref r2, .ref r3, .int p4] : List Value).toArray s 0 0 (gA G) = Z at hend ⊢
  generalize ([.ref o, .int p1, .ref r2, .ref r3, .int p4] : List Value).toArray = args at hts hend ⊢
  unfold f14_heatOf at hf
  refine lv_aload_n hx hb dX14_heatOf_0 rfl (lv_at hl 3 rfl) ?_
  refine lv_iload hx hb dX14_heatOf_1 (lv_at hl 4 rfl) ?_
  refine lv_iload_n hx hb dX14_heatOf_3 rfl (lv_at hl 1 rfl) ?_
  obtain ⟨v1, ev1, hf⟩ := lt_some hf
  refine n_iadd hx hb ev1 dX14_heatOf_4 ?_
  obtain ⟨c2, hf⟩ := gd_some hf
  obtain ⟨v3, ev3, hf⟩ := lt_some hf
  refine n_iald (x := x3) hx hb hG hR k_x3 c2 e_x3 ev3 dX14_heatOf_5 ?_
  refine lv_iconst (v := 1) hx hb dX14_heatOf_6 li_1 ?_
  refine lv_icmp_eq (tgt := 19) hx hb dX14_heatOf_7 (by decide) (fun c4 => ?_) (fun c4 => ?_)
  · have hf := ite_t c4 hf
    refine lv_iconst (v := 0) hx hb dX14_heatOf_19 li_0 ?_
    obtain rfl := some_i hf
    exact hend _ _ _ _ dX14_heatOf_20 hR hS
  · have hf := ite_f c4 hf
    refine lv_aload_n hx hb dX14_heatOf_10 rfl (lv_at hl 2 rfl) ?_
    refine lv_iload hx hb dX14_heatOf_11 (lv_at hl 4 rfl) ?_
    refine lv_iload_n hx hb dX14_heatOf_13 rfl (lv_at hl 1 rfl) ?_
    obtain ⟨v5, ev5, hf⟩ := lt_some hf
    refine n_iadd hx hb ev5 dX14_heatOf_14 ?_
    obtain ⟨c6, hf⟩ := gd_some hf
    obtain ⟨v7, ev7, hf⟩ := lt_some hf
    refine n_iald (x := x2) hx hb hG hR k_x2 c6 e_x2 ev7 dX14_heatOf_15 ?_
    refine lv_if_ne (tgt := 21) hx hb dX14_heatOf_16 (by decide) (fun c8 => ?_) (fun c8 => ?_)
    · have hf := ite_f c8 hf
      refine lv_iconst (v := 0) hx hb dX14_heatOf_21 li_0 ?_
      refine lv_istore (lv' := [(5, .int (0 : Int32)), (0, .ref o), (1, .int p1), (2, .ref r2), (3, .ref r3), (4, .int p4)]) hx hb dX14_heatOf_22 hl (by decide) rfl (fun ls hl => ?_)
      refine lv_iconst (v := 0) hx hb dX14_heatOf_24 li_0 ?_
      refine lv_istore (lv' := [(6, .int (0 : Int32)), (5, .int (0 : Int32)), (0, .ref o), (1, .int p1), (2, .ref r2), (3, .ref r3), (4, .int p4)]) hx hb dX14_heatOf_25 hl (by decide) rfl (fun ls hl => ?_)
      obtain ⟨rl9, hw9, hfo9⟩ := bind_s hf
      have hx9_0 : ∀ (x9_0 : Int32), f14_heatOf_e9_0 x9_0 = some out → ∀ (H : Heap) (locs : List Loc) (ls : Array Slot), RS G K I J X A B Q H → va_S (gA G) s.heap H locs → lv_has ls 9 [(0, .ref o), (5, .int x9_0)] → W p l e ({ frames := 2, cells := 0, slots := 0, locals := 44 } : Room) s m args below meth c H locs 0 0 Z (F0 m 136 ls []) := by
        intro x9_0 hf H locs ls hR hS hl
        unfold f14_heatOf_e9_0 at hf
        refine lv_iload hx hb dX14_heatOf_136 (lv_at hl 1 rfl) ?_
        obtain rfl := some_i hf
        exact hend _ _ _ _ dX14_heatOf_138 hR hS
      refine whl_walk (P := fun (s9 : Int32 × Int32) => ∀ (H : Heap) (locs : List Loc) (ls : Array Slot), RS G K I J X A B Q H → va_S (gA G) s.heap H locs → lv_has ls 9 [(0, .ref o), (1, .int p1), (2, .ref r2), (3, .ref r3), (4, .int p4), (5, .int s9.1), (6, .int s9.2)] → W p l e ({ frames := 2, cells := 0, slots := 0, locals := 44 } : Room) s m args below meth c H locs 0 0 Z (F0 m 27 ls [])) (r := rl9) ?_ FU _ hw9 _ _ _ hR hS (lv_sub hl [2, 3, 4, 5, 6, 1, 0] rfl)
      clear hR hS hl hf
      intro s9 o9 hf hk9 H locs ls hR hS hl
      obtain ⟨w9_5, w9_6⟩ := s9
      have hf : f14_heatOf_s9 p1 p4 n2 n3 a_now x2 x3 w9_5 w9_6 = some o9 := hf
      have hR : RS G K I J X A B Q H := hR
      have hl : lv_has ls 9 [(0, .ref o), (1, .int p1), (2, .ref r2), (3, .ref r3), (4, .int p4), (5, .int w9_5), (6, .int w9_6)] := hl
      unfold f14_heatOf_s9 at hf
      refine lv_iload hx hb dX14_heatOf_27 (lv_at hl 6 rfl) ?_
      refine lv_iconst (v := 4) hx hb dX14_heatOf_29 li_4 ?_
      refine lv_icmp_ge (tgt := 136) hx hb dX14_heatOf_30 (by decide) (fun c10 => ?_) (fun c10 => ?_)
      · have hf := ite_t c10 hf
        obtain rfl := some_i hf
        replace hk9 : _ = rl9 := hk9
        subst hk9
        exact hx9_0 w9_5 hfo9 _ _ _ hR hS (lv_sub hl [0, 5] rfl)
      · have hf := ite_f c10 hf
        refine lv_aload_n hx hb dX14_heatOf_33 rfl (lv_at hl 0 rfl) ?_
        refine lv_iload_n hx hb dX14_heatOf_34 rfl (lv_at hl 1 rfl) ?_
        refine lv_iload hx hb dX14_heatOf_35 (lv_at hl 6 rfl) ?_
        obtain ⟨rr11, hrr11, hf⟩ := bind_s hf
        refine g0_cV (rm := (1, 20)) (As := [.int p1, .int w9_6]) (rest := []) ⟨hx, hb, hml, hown, hts⟩ hG hR hS (m14_neighbour l G K I J X A B Q o shM p1 w9_6 a_now e_a_now rr11 hrr11) (cwV 2 hts gi_X14_429 rfl rfl rfl hd_X14_neighbour ⟨Nat.le_of_ble_eq_true rfl, Nat.le_of_ble_eq_true rfl⟩) shM.1 rfl rfl hl.1 (Nat.le_of_ble_eq_true rfl) dX14_heatOf_37 ⟨Nat.le_refl _, Nat.le_refl _⟩ rfl (fun H locs hR hS => ?_)
        refine lv_istore (lv' := [(7, .int rr11), (0, .ref o), (1, .int p1), (2, .ref r2), (3, .ref r3), (4, .int p4), (5, .int w9_5), (6, .int w9_6)]) hx hb dX14_heatOf_40 hl (by decide) rfl (fun ls hl => ?_)
        refine lv_iload hx hb dX14_heatOf_42 (lv_at hl 0 rfl) ?_
        refine lv_iconst (v := -1) hx hb dX14_heatOf_44 li_m1 ?_
        have hj130 : ∀ (j130_5 : Int32), f14_heatOf_j130 w9_6 j130_5 = some o9 → ∀ (H : Heap) (locs : List Loc) (ls : Array Slot), RS G K I J X A B Q H → va_S (gA G) s.heap H locs → lv_has ls 9 [(0, .ref o), (1, .int p1), (2, .ref r2), (3, .ref r3), (4, .int p4), (5, .int j130_5), (6, .int w9_6)] → W p l e ({ frames := 2, cells := 0, slots := 0, locals := 44 } : Room) s m args below meth c H locs 0 0 Z (F0 m 130 ls []) := by
          intro j130_5 hf H locs ls hR hS hl
          unfold f14_heatOf_j130 at hf
          obtain ⟨v12, ev12, hf⟩ := lt_some hf
          refine lv_iinc (k := 6) (v := v12) (lv' := [(6, .int v12), (0, .ref o), (1, .int p1), (2, .ref r2), (3, .ref r3), (4, .int p4), (5, .int j130_5)]) hx hb dX14_heatOf_130 hl rfl (by rw [ev12]; rfl) (by decide) rfl (fun ls hl => ?_)
          refine lv_goto (tgt := 27) hx hb dX14_heatOf_133 (by decide) ?_
          obtain rfl := some_i hf
          exact hk9 _ _ _ hR hS (lv_sub hl [1, 2, 3, 4, 5, 6, 0] rfl)
        refine lv_icmp_eq (tgt := 130) hx hb dX14_heatOf_45 (by decide) (fun c13 => ?_) (fun c13 => ?_)
        · have hf := ite_t c13 hf
          exact hj130 w9_5 hf _ _ _ hR hS (lv_sub hl [1, 2, 3, 4, 5, 6, 7] rfl)
        · have hf := ite_f c13 hf
          refine lv_aload_n hx hb dX14_heatOf_48 rfl (lv_at hl 4 rfl) ?_
          refine lv_iload hx hb dX14_heatOf_49 (lv_at hl 5 rfl) ?_
          refine lv_iload hx hb dX14_heatOf_51 (lv_at hl 0 rfl) ?_
          obtain ⟨v14, ev14, hf⟩ := lt_some hf
          refine n_iadd hx hb ev14 dX14_heatOf_53 ?_
          obtain ⟨c15, hf⟩ := gd_some hf
          obtain ⟨v16, ev16, hf⟩ := lt_some hf
          refine n_iald (x := x3) hx hb hG hR k_x3 c15 e_x3 ev16 dX14_heatOf_54 ?_
          refine lv_if_ne (tgt := 61) hx hb dX14_heatOf_55 (by decide) (fun c17 => ?_) (fun c17 => ?_)
          · have hf := ite_f c17 hf
            refine lv_aload_n hx hb dX14_heatOf_61 rfl (lv_at hl 1 rfl) ?_
            refine g_getr (b := (o + 2)) hx hb hts hown hG hR gFx_X14_13_11 shM.1 ((shM.2 1 _ rfl).2) dX14_heatOf_62 ?_
            refine lv_bipush (v := 11) hx hb dX14_heatOf_65 lb_11 ?_
            obtain ⟨c18, hf⟩ := gd_some hf
            obtain ⟨v19, ev19, hf⟩ := lt_some hf
            refine n_iald (x := a_now) hx hb hG hR k_a_now c18 e_a_now ev19 dX14_heatOf_67 ?_
            refine lv_iconst (v := -1) hx hb dX14_heatOf_68 li_m1 ?_
            have hj113 : ∀ (j113_s0 : Int32), f14_heatOf_j113 p4 n2 x2 w9_5 w9_6 rr11 j113_s0 = some o9 → ∀ (H : Heap) (locs : List Loc) (ls : Array Slot), RS G K I J X A B Q H → va_S (gA G) s.heap H locs → lv_has ls 9 [(0, .ref o), (1, .int p1), (2, .ref r2), (3, .ref r3), (4, .int p4), (5, .int w9_5), (6, .int w9_6), (7, .int rr11)] → W p l e ({ frames := 2, cells := 0, slots := 0, locals := 44 } : Room) s m args below meth c H locs 0 0 Z (F0 m 113 ls [.int j113_s0]) := by
              intro j113_s0 hf H locs ls hR hS hl
              unfold f14_heatOf_j113 at hf
              refine lv_istore (lv' := [(8, .int j113_s0), (0, .ref o), (1, .int p1), (2, .ref r2), (3, .ref r3), (4, .int p4), (5, .int w9_5), (6, .int w9_6), (7, .int rr11)]) hx hb dX14_heatOf_113 hl (by decide) rfl (fun ls hl => ?_)
              refine lv_iload hx hb dX14_heatOf_115 (lv_at hl 6 rfl) ?_
              refine lv_iload hx hb dX14_heatOf_117 (lv_at hl 0 rfl) ?_
              refine lv_aload_n hx hb dX14_heatOf_119 rfl (lv_at hl 3 rfl) ?_
              refine lv_iload hx hb dX14_heatOf_120 (lv_at hl 5 rfl) ?_
              refine lv_iload hx hb dX14_heatOf_122 (lv_at hl 8 rfl) ?_
              obtain ⟨v20, ev20, hf⟩ := lt_some hf
              refine n_iadd hx hb ev20 dX14_heatOf_124 ?_
              obtain ⟨c21, hf⟩ := gd_some hf
              obtain ⟨v22, ev22, hf⟩ := lt_some hf
              refine n_iald (x := x2) hx hb hG hR k_x2 c21 e_x2 ev22 dX14_heatOf_125 ?_
              obtain ⟨v23, ev23, hf⟩ := lt_some hf
              refine n_imul hx hb ev23 dX14_heatOf_126 ?_
              obtain ⟨v24, ev24, hf⟩ := lt_some hf
              refine n_iadd hx hb ev24 dX14_heatOf_127 ?_
              refine lv_istore (lv' := [(5, .int v24), (8, .int j113_s0), (0, .ref o), (1, .int p1), (2, .ref r2), (3, .ref r3), (4, .int p4), (6, .int w9_6), (7, .int rr11)]) hx hb dX14_heatOf_128 hl (by decide) rfl (fun ls hl => ?_)
              exact hj130 v24 hf _ _ _ hR hS (lv_sub hl [2, 3, 4, 5, 6, 0, 7] rfl)
            refine lv_icmp_ne (tgt := 76) hx hb dX14_heatOf_69 (by decide) (fun c25 => ?_) (fun c25 => ?_)
            · have hf := ite_f c25 hf
              refine lv_aload_n hx hb dX14_heatOf_76 rfl (lv_at hl 1 rfl) ?_
              refine g_getr (b := (o + 2)) hx hb hts hown hG hR gFx_X14_13_11 shM.1 ((shM.2 1 _ rfl).2) dX14_heatOf_77 ?_
              refine lv_bipush (v := 11) hx hb dX14_heatOf_80 lb_11 ?_
              obtain ⟨c26, hf⟩ := gd_some hf
              obtain ⟨v27, ev27, hf⟩ := lt_some hf
              refine n_iald (x := a_now) hx hb hG hR k_a_now c26 e_a_now ev27 dX14_heatOf_82 ?_
              refine lv_iload hx hb dX14_heatOf_83 (lv_at hl 7 rfl) ?_
              refine lv_iconst (v := 2) hx hb dX14_heatOf_85 li_2 ?_
              obtain ⟨v28, ev28, hf⟩ := lt_some hf
              refine n_iadd hx hb ev28 dX14_heatOf_86 ?_
              refine lv_iconst (v := 4) hx hb dX14_heatOf_87 li_4 ?_
              obtain ⟨c30, hf⟩ := gd_some hf
              obtain ⟨v29, ev29, hf⟩ := lt_some hf
              refine n_irem hx hb c30 ev29 dX14_heatOf_88 ?_
              refine lv_icmp_ne (tgt := 96) hx hb dX14_heatOf_89 (by decide) (fun c31 => ?_) (fun c31 => ?_)
              · have hf := ite_f c31 hf
                refine lv_aload_n hx hb dX14_heatOf_96 rfl (lv_at hl 1 rfl) ?_
                refine g_getr (b := (o + 2)) hx hb hts hown hG hR gFx_X14_13_11 shM.1 ((shM.2 1 _ rfl).2) dX14_heatOf_97 ?_
                refine lv_bipush (v := 11) hx hb dX14_heatOf_100 lb_11 ?_
                obtain ⟨c32, hf⟩ := gd_some hf
                obtain ⟨v33, ev33, hf⟩ := lt_some hf
                refine n_iald (x := a_now) hx hb hG hR k_a_now c32 e_a_now ev33 dX14_heatOf_102 ?_
                refine lv_iload hx hb dX14_heatOf_103 (lv_at hl 7 rfl) ?_
                refine lv_icmp_ne (tgt := 112) hx hb dX14_heatOf_105 (by decide) (fun c34 => ?_) (fun c34 => ?_)
                · have hf := ite_f c34 hf
                  refine lv_iconst (v := 1) hx hb dX14_heatOf_112 li_1 ?_
                  exact hj113 (1 : Int32) hf _ _ _ hR hS (lv_sub hl [1, 2, 3, 4, 5, 6, 7, 0] rfl)
                · have hf := ite_t c34 hf
                  refine lv_iconst (v := 0) hx hb dX14_heatOf_108 li_0 ?_
                  refine lv_goto (tgt := 113) hx hb dX14_heatOf_109 (by decide) ?_
                  exact hj113 (0 : Int32) hf _ _ _ hR hS (lv_sub hl [1, 2, 3, 4, 5, 6, 7, 0] rfl)
              · have hf := ite_t c31 hf
                refine lv_iconst (v := 2) hx hb dX14_heatOf_92 li_2 ?_
                refine lv_goto (tgt := 113) hx hb dX14_heatOf_93 (by decide) ?_
                exact hj113 (2 : Int32) hf _ _ _ hR hS (lv_sub hl [1, 2, 3, 4, 5, 6, 7, 0] rfl)
            · have hf := ite_t c25 hf
              refine lv_iconst (v := 1) hx hb dX14_heatOf_72 li_1 ?_
              refine lv_goto (tgt := 113) hx hb dX14_heatOf_73 (by decide) ?_
              exact hj113 (1 : Int32) hf _ _ _ hR hS (lv_sub hl [1, 2, 3, 4, 5, 6, 7, 0] rfl)
          · have hf := ite_t c17 hf
            refine lv_goto (tgt := 130) hx hb dX14_heatOf_58 (by decide) ?_
            exact hj130 w9_5 hf _ _ _ hR hS (lv_sub hl [1, 2, 3, 4, 5, 6, 7] rfl)
    · have hf := ite_t c8 hf
      refine lv_iconst (v := 0) hx hb dX14_heatOf_19 li_0 ?_
      obtain rfl := some_i hf
      exact hend _ _ _ _ dX14_heatOf_20 hR hS
noncomputable def f14_minute_e3_0 (x3_0 : Int32 × (Nat → Int32) × (Nat → Int32) × (Nat → Int32) × (Nat → Int32)) : Option (Int32 × (Nat → Int32) × (Nat → Int32) × (Nat → Int32) × (Nat → Int32)) :=
  some x3_0

noncomputable def f14_minute_j186 (w3_3 : Int32) (j186_a_burn : Nat → Int32) : Option ((Int32 × (Nat → Int32)) ⊕ (Int32 × (Nat → Int32) × (Nat → Int32) × (Nat → Int32) × (Nat → Int32))) :=
  lt (w3_3 + (1 : Int32)) fun v13 =>
  some (.inl (v13, j186_a_burn))

noncomputable def f14_minute_s3 (a_now : Nat → Int32) (j50_a_wet : Nat → Int32) (x1_0 : (Nat → Int32)) (x2_0 : Int32 × (Nat → Int32) × (Nat → Int32)) (w3_3 : Int32) (w3_a_burn : Nat → Int32) : Option ((Int32 × (Nat → Int32)) ⊕ (Int32 × (Nat → Int32) × (Nat → Int32) × (Nat → Int32) × (Nat → Int32))) :=
  (f14_cells a_now).bind fun rr4 =>
  if rr4 ≤ w3_3 then
    some (.inr (x2_0.1, x2_0.2.1, w3_a_burn, j50_a_wet, x1_0))
  else
    gd (inb w3_3 64) <|
    lt (x1_0 w3_3.toNatClampNeg) fun v7 =>
    gd (inb w3_3 64) <|
    lt (j50_a_wet w3_3.toNatClampNeg) fun v9 =>
    gd (¬ (2 : Int32) = 0) <|
    lt (v9 / (2 : Int32)) fun v10 =>
    lt ((5 : Int32) + v10) fun v12 =>
    if v7 < v12 then
      f14_minute_j186 w3_3 w3_a_burn
    else
      gd (inb w3_3 64) <|
      lt (upd w3_a_burn w3_3.toNatClampNeg (1 : Int32)) fun u16 =>
      f14_minute_j186 w3_3 u16

noncomputable def f14_minute_e2_0 (a_now : Nat → Int32) (j50_a_wet : Nat → Int32) (x1_0 : (Nat → Int32)) (x2_0 : Int32 × (Nat → Int32) × (Nat → Int32)) : Option (Int32 × (Nat → Int32) × (Nat → Int32) × (Nat → Int32) × (Nat → Int32)) :=
  (whl (fun (s3 : Int32 × (Nat → Int32)) => f14_minute_s3 a_now j50_a_wet x1_0 x2_0 s3.1 s3.2) FU ((0 : Int32), x2_0.2.2)).bind fun rl3 =>
  f14_minute_e3_0 rl3

noncomputable def f14_minute_j144 (w2_3 : Int32) (j144_i_lost : Int32) (j144_a_fuel : Nat → Int32) (j144_a_burn : Nat → Int32) : Option ((Int32 × Int32 × (Nat → Int32) × (Nat → Int32)) ⊕ (Int32 × (Nat → Int32) × (Nat → Int32))) :=
  lt (w2_3 + (1 : Int32)) fun v21 =>
  some (.inl (v21, j144_i_lost, j144_a_fuel, j144_a_burn))

noncomputable def f14_minute_s2 (a_now : Nat → Int32) (w2_3 : Int32) (w2_i_lost : Int32) (w2_a_fuel : Nat → Int32) (w2_a_burn : Nat → Int32) : Option ((Int32 × Int32 × (Nat → Int32) × (Nat → Int32)) ⊕ (Int32 × (Nat → Int32) × (Nat → Int32))) :=
  (f14_cells a_now).bind fun rr17 =>
  if rr17 ≤ w2_3 then
    some (.inr (w2_i_lost, w2_a_fuel, w2_a_burn))
  else
    gd (inb w2_3 64) <|
    lt (w2_a_burn w2_3.toNatClampNeg) fun v20 =>
    if v20 = 0 then
      f14_minute_j144 w2_3 w2_i_lost w2_a_fuel w2_a_burn
    else
      gd (inb w2_3 64) <|
      lt (w2_a_fuel w2_3.toNatClampNeg) fun v24 =>
      lt (v24 - (1 : Int32)) fun v25 =>
      gd (inb w2_3 64) <|
      lt (upd w2_a_fuel w2_3.toNatClampNeg v25) fun u27 =>
      lt (w2_i_lost + (1 : Int32)) fun v28 =>
      gd (inb w2_3 64) <|
      lt (u27 w2_3.toNatClampNeg) fun v30 =>
      if v30 = 0 then
        gd (inb w2_3 64) <|
        lt (upd w2_a_burn w2_3.toNatClampNeg (0 : Int32)) fun u33 =>
        f14_minute_j144 w2_3 v28 u27 u33
      else
        f14_minute_j144 w2_3 v28 u27 w2_a_burn

noncomputable def f14_minute_e1_0 (i_lost : Int32) (a_now : Nat → Int32) (a_fuel : Nat → Int32) (j50_a_burn : Nat → Int32) (j50_a_wet : Nat → Int32) (x1_0 : (Nat → Int32)) : Option (Int32 × (Nat → Int32) × (Nat → Int32) × (Nat → Int32) × (Nat → Int32)) :=
  (whl (fun (s2 : Int32 × Int32 × (Nat → Int32) × (Nat → Int32)) => f14_minute_s2 a_now s2.1 s2.2.1 s2.2.2.1 s2.2.2.2) FU ((0 : Int32), i_lost, a_fuel, j50_a_burn)).bind fun rl2 =>
  f14_minute_e2_0 a_now j50_a_wet x1_0 rl2

noncomputable def f14_minute_s1 (a_now : Nat → Int32) (a_fuel : Nat → Int32) (j50_a_burn : Nat → Int32) (w1_3 : Int32) (w1_a_heat : Nat → Int32) : Option ((Int32 × (Nat → Int32)) ⊕ ((Nat → Int32))) :=
  (f14_cells a_now).bind fun rr34 =>
  if rr34 ≤ w1_3 then
    some (.inr w1_a_heat)
  else
    (f14_heatOf w1_3 (0 : Int32) 64 64 a_now a_fuel j50_a_burn).bind fun rr36 =>
    gd (inb w1_3 64) <|
    lt (upd w1_a_heat w1_3.toNatClampNeg rr36) fun u38 =>
    lt (w1_3 + (1 : Int32)) fun v39 =>
    some (.inl (v39, u38))

noncomputable def f14_minute_j50 (i_lost : Int32) (a_now : Nat → Int32) (a_fuel : Nat → Int32) (a_heat : Nat → Int32) (j50_a_burn : Nat → Int32) (j50_a_wet : Nat → Int32) : Option (Int32 × (Nat → Int32) × (Nat → Int32) × (Nat → Int32) × (Nat → Int32)) :=
  (whl (fun (s1 : Int32 × (Nat → Int32)) => f14_minute_s1 a_now a_fuel j50_a_burn s1.1 s1.2) FU ((0 : Int32), a_heat)).bind fun rl1 =>
  f14_minute_e1_0 i_lost a_now a_fuel j50_a_burn j50_a_wet rl1

noncomputable def f14_minute (p1 : Int32) (p2 : Int32) (i_lost : Int32) (a_now : Nat → Int32) (a_fuel : Nat → Int32) (a_burn : Nat → Int32) (a_wet : Nat → Int32) (a_heat : Nat → Int32) : Option (Int32 × (Nat → Int32) × (Nat → Int32) × (Nat → Int32) × (Nat → Int32)) :=
  if p1 = (-1 : Int32) then
    f14_minute_j50 i_lost a_now a_fuel a_heat a_burn a_wet
  else
    gd (inb p1 64) <|
    lt (a_wet p1.toNatClampNeg) fun v42 =>
    lt (v42 + p2) fun v43 =>
    gd (inb p1 64) <|
    lt (upd a_wet p1.toNatClampNeg v43) fun u45 =>
    gd (inb p1 64) <|
    lt (a_burn p1.toNatClampNeg) fun v47 =>
    if v47 = (1 : Int32) then
      gd (inb p1 64) <|
      lt (u45 p1.toNatClampNeg) fun v50 =>
      gd (inb p1 64) <|
      lt (a_fuel p1.toNatClampNeg) fun v52 =>
      lt ((10 : Int32) * v52) fun v53 =>
      if v50 < v53 then
        f14_minute_j50 i_lost a_now a_fuel a_heat a_burn u45
      else
        gd (inb p1 64) <|
        lt (upd a_burn p1.toNatClampNeg (0 : Int32)) fun u56 =>
        f14_minute_j50 i_lost a_now a_fuel a_heat u56 u45
    else
      f14_minute_j50 i_lost a_now a_fuel a_heat a_burn u45
set_option maxHeartbeats 4000000 in
theorem m14_minute (l : Launch) (G : gG) (K : gK) (I : gI) (J : gJ) (X : gX) (A : gI) (B : gJ) (Q : gX) (o : Nat) (shM : Sh K X o 11 rows11) (p1 : Int32) (p2 : Int32) (i_lost : Int32) (a_now : Nat → Int32) (a_fuel : Nat → Int32) (a_burn : Nat → Int32) (a_wet : Nat → Int32) (a_heat : Nat → Int32) (e_i_lost : I 1170 o = i_lost) (e_a_now : A (o + 2) = a_now) (e_a_fuel : A (o + 32) = a_fuel) (e_a_burn : A (o + 33) = a_burn) (e_a_wet : A (o + 34) = a_wet) (e_a_heat : A (o + 35) = a_heat) (out : Int32 × (Nat → Int32) × (Nat → Int32) × (Nat → Int32) × (Nat → Int32)) (hf : f14_minute p1 p2 i_lost a_now a_fuel a_burn a_wet a_heat = some out) : GMet l yX14_minute cX14_minute 4 none (3) (72) G [.ref o, .int p1, .int p2] K I J X A B Q none K (ov I [(1170, o, out.1)]) J X (ova A [((o + 2), a_now), ((o + 32), out.2.1), ((o + 33), out.2.2.1), ((o + 34), out.2.2.2.1), ((o + 35), out.2.2.2.2)]) B Q 0 0 := by
  refine GMet.of (y := yX14_minute) rfl (Nat.le_of_ble_eq_true rfl) rfl ?_
  intro p e s m below meth c ls hx hb hr hml hlocks hts hown hname hG hR hl
  have hown : s.vm.findClass RX14 = some m.cls := hown
  have k_a_now : K (o + 2) = some (.inr (0, 800)) := (shM.2 1 _ rfl).1
  have k_a_fuel : K (o + 32) = some (.inr (0, 64)) := (shM.2 31 _ rfl).1
  have k_a_burn : K (o + 33) = some (.inr (0, 64)) := (shM.2 32 _ rfl).1
  have k_a_wet : K (o + 34) = some (.inr (0, 64)) := (shM.2 33 _ rfl).1
  have k_a_heat : K (o + 35) = some (.inr (0, 64)) := (shM.2 34 _ rfl).1
  have hN_A : nda [(o + 2), (o + 32), (o + 33), (o + 34), (o + 35)] := nd_off o [2, 32, 33, 34, 35] rfl
  have hR : RS G K (ov I [(1170, o, i_lost)]) J X (ova A [((o + 2), a_now), ((o + 32), a_fuel), ((o + 33), a_burn), ((o + 34), a_wet), ((o + 35), a_heat)]) B Q s.heap := hR.to (Eq.symm (ov_sc e_i_lost rfl)) rfl rfl (Eq.symm (ova_sc e_a_now (ova_sc e_a_fuel (ova_sc e_a_burn (ova_sc e_a_wet (ova_sc e_a_heat rfl)))))) rfl rfl
  have hS : va_S (gA G) s.heap s.heap [] := va_S.rf
  have hend : ∀ (pc : Nat) (H : Heap) (locs : List Loc) (ls : Array Slot), decode cX14_minute pc = .ok (.return_, 1) → RS G K (ov I [(1170, o, out.1)]) J X (ova A [((o + 2), a_now), ((o + 32), out.2.1), ((o + 33), out.2.2.1), ((o + 34), out.2.2.2.1), ((o + 35), out.2.2.2.2)]) B Q H → va_S (gA G) s.heap H locs → W p l e ({ frames := 3, cells := 0, slots := 0, locals := 72 } : Room) s m ([.ref o, .int p1, .int p2] : List Value).toArray below meth c H locs 0 0 (MQ below (gQ G none K (ov I [(1170, o, out.1)]) J X (ova A [((o + 2), a_now), ((o + 32), out.2.1), ((o + 33), out.2.2.1), ((o + 34), out.2.2.2.1), ((o + 35), out.2.2.2.2)]) B Q) ([.ref o, .int p1, .int p2] : List Value).toArray s 0 0 (gA G)) (F0 m pc ls []) := fun pc H locs ls hd hR hS => g_vret hx hb hr hlocks hG hR hS rfl hd
  generalize MQ below (gQ G none K (ov I [(1170, o, out.1)]) J X (ova A [((o + 2), a_now), ((o + 32), out.2.1), ((o + 33), out.2.2.1), ((o + 34), out.2.2.2.1), ((o + 35), out.2.2.2.2)]) B Q) ([.ref o, .int p1, .int p2] : List Value).toArray s 0 0 (gA G) = Z at hend ⊢
  generalize ([.ref o, .int p1, .int p2] : List Value).toArray = args at hts hend ⊢
  unfold f14_minute at hf
  refine lv_iload_n hx hb dX14_minute_0 rfl (lv_at hl 1 rfl) ?_
  refine lv_iconst (v := -1) hx hb dX14_minute_1 li_m1 ?_
  have hj50 : ∀ (j50_a_burn : Nat → Int32) (j50_a_wet : Nat → Int32), f14_minute_j50 i_lost a_now a_fuel a_heat j50_a_burn j50_a_wet = some out → ∀ (H : Heap) (locs : List Loc) (ls : Array Slot), RS G K (ov I [(1170, o, i_lost)]) J X (ova A [((o + 2), a_now), ((o + 32), a_fuel), ((o + 33), j50_a_burn), ((o + 34), j50_a_wet), ((o + 35), a_heat)]) B Q H → va_S (gA G) s.heap H locs → lv_has ls 4 [(0, .ref o)] → W p l e ({ frames := 3, cells := 0, slots := 0, locals := 72 } : Room) s m args below meth c H locs 0 0 Z (F0 m 50 ls []) := by
    intro j50_a_burn j50_a_wet hf H locs ls hR hS hl
    unfold f14_minute_j50 at hf
    refine lv_iconst (v := 0) hx hb dX14_minute_50 li_0 ?_
    refine lv_istore_n (lv' := [(3, .int (0 : Int32)), (0, .ref o)]) hx hb dX14_minute_51 rfl hl (by decide) rfl (fun ls hl => ?_)
    obtain ⟨rl1, hw1, hfo1⟩ := bind_s hf
    have hx1_0 : ∀ (x1_0 : (Nat → Int32)), f14_minute_e1_0 i_lost a_now a_fuel j50_a_burn j50_a_wet x1_0 = some out → ∀ (H : Heap) (locs : List Loc) (ls : Array Slot), RS G K (ov I [(1170, o, i_lost)]) J X (ova A [((o + 2), a_now), ((o + 32), a_fuel), ((o + 33), j50_a_burn), ((o + 34), j50_a_wet), ((o + 35), x1_0)]) B Q H → va_S (gA G) s.heap H locs → lv_has ls 4 [(0, .ref o)] → W p l e ({ frames := 3, cells := 0, slots := 0, locals := 72 } : Room) s m args below meth c H locs 0 0 Z (F0 m 86 ls []) := by
      intro x1_0 hf H locs ls hR hS hl
      unfold f14_minute_e1_0 at hf
      refine lv_iconst (v := 0) hx hb dX14_minute_86 li_0 ?_
      refine lv_istore_n (lv' := [(3, .int (0 : Int32)), (0, .ref o)]) hx hb dX14_minute_87 rfl hl (by decide) rfl (fun ls hl => ?_)
      obtain ⟨rl2, hw2, hfo2⟩ := bind_s hf
      have hx2_0 : ∀ (x2_0 : Int32 × (Nat → Int32) × (Nat → Int32)), f14_minute_e2_0 a_now j50_a_wet x1_0 x2_0 = some out → ∀ (H : Heap) (locs : List Loc) (ls : Array Slot), RS G K (ov I [(1170, o, x2_0.1)]) J X (ova A [((o + 2), a_now), ((o + 32), x2_0.2.1), ((o + 33), x2_0.2.2), ((o + 34), j50_a_wet), ((o + 35), x1_0)]) B Q H → va_S (gA G) s.heap H locs → lv_has ls 4 [(0, .ref o)] → W p l e ({ frames := 3, cells := 0, slots := 0, locals := 72 } : Room) s m args below meth c H locs 0 0 Z (F0 m 150 ls []) := by
        intro x2_0 hf H locs ls hR hS hl
        unfold f14_minute_e2_0 at hf
        refine lv_iconst (v := 0) hx hb dX14_minute_150 li_0 ?_
        refine lv_istore_n (lv' := [(3, .int (0 : Int32)), (0, .ref o)]) hx hb dX14_minute_151 rfl hl (by decide) rfl (fun ls hl => ?_)
        obtain ⟨rl3, hw3, hfo3⟩ := bind_s hf
        have hx3_0 : ∀ (x3_0 : Int32 × (Nat → Int32) × (Nat → Int32) × (Nat → Int32) × (Nat → Int32)), f14_minute_e3_0 x3_0 = some out → ∀ (pc : Nat) (H : Heap) (locs : List Loc) (ls : Array Slot), decode cX14_minute pc = .ok (.return_, 1) → RS G K (ov I [(1170, o, x3_0.1)]) J X (ova A [((o + 2), a_now), ((o + 32), x3_0.2.1), ((o + 33), x3_0.2.2.1), ((o + 34), x3_0.2.2.2.1), ((o + 35), x3_0.2.2.2.2)]) B Q H → va_S (gA G) s.heap H locs → W p l e ({ frames := 3, cells := 0, slots := 0, locals := 72 } : Room) s m args below meth c H locs 0 0 Z (F0 m pc ls []) := by
          intro x3_0 hf pc H locs ls hd hR hS
          unfold f14_minute_e3_0 at hf
          obtain rfl := some_i hf
          exact hend _ _ _ _ hd hR hS
        refine whl_walk (P := fun (s3 : Int32 × (Nat → Int32)) => ∀ (H : Heap) (locs : List Loc) (ls : Array Slot), RS G K (ov I [(1170, o, x2_0.1)]) J X (ova A [((o + 2), a_now), ((o + 32), x2_0.2.1), ((o + 33), s3.2), ((o + 34), j50_a_wet), ((o + 35), x1_0)]) B Q H → va_S (gA G) s.heap H locs → lv_has ls 4 [(0, .ref o), (3, .int s3.1)] → W p l e ({ frames := 3, cells := 0, slots := 0, locals := 72 } : Room) s m args below meth c H locs 0 0 Z (F0 m 152 ls [])) (r := rl3) ?_ FU _ hw3 _ _ _ hR hS (lv_sub hl [1, 0] rfl)
        clear hR hS hl hf
        intro s3 o3 hf hk3 H locs ls hR hS hl
        obtain ⟨w3_3, w3_a_burn⟩ := s3
        have hf : f14_minute_s3 a_now j50_a_wet x1_0 x2_0 w3_3 w3_a_burn = some o3 := hf
        have hR : RS G K (ov I [(1170, o, x2_0.1)]) J X (ova A [((o + 2), a_now), ((o + 32), x2_0.2.1), ((o + 33), w3_a_burn), ((o + 34), j50_a_wet), ((o + 35), x1_0)]) B Q H := hR
        have hl : lv_has ls 4 [(0, .ref o), (3, .int w3_3)] := hl
        unfold f14_minute_s3 at hf
        refine lv_iload_n hx hb dX14_minute_152 rfl (lv_at hl 1 rfl) ?_
        refine lv_aload_n hx hb dX14_minute_153 rfl (lv_at hl 0 rfl) ?_
        obtain ⟨rr4, hrr4, hf⟩ := bind_s hf
        refine g0_cV (rm := (0, 0)) (As := []) (rest := [.int w3_3]) ⟨hx, hb, hml, hown, hts⟩ hG hR hS (m14_cells l G K (ov I [(1170, o, x2_0.1)]) J X (ova A [((o + 2), a_now), ((o + 32), x2_0.2.1), ((o + 33), w3_a_burn), ((o + 34), j50_a_wet), ((o + 35), x1_0)]) B Q o shM a_now (ova_get 0 hN_A rfl) rr4 hrr4) (cwV 0 hts gi_X14_426 rfl rfl rfl hd_X14_cells ⟨Nat.le_of_ble_eq_true rfl, Nat.le_of_ble_eq_true rfl⟩) shM.1 rfl rfl hl.1 (Nat.le_of_ble_eq_true rfl) dX14_minute_154 ⟨Nat.le_refl _, Nat.le_refl _⟩ rfl (fun H locs hR hS => ?_)
        refine lv_icmp_ge (tgt := 192) hx hb dX14_minute_157 (by decide) (fun c5 => ?_) (fun c5 => ?_)
        · have hf := ite_t c5 hf
          obtain rfl := some_i hf
          replace hk3 : _ = rl3 := hk3
          subst hk3
          exact hx3_0 (x2_0.1, x2_0.2.1, w3_a_burn, j50_a_wet, x1_0) hfo3 _ _ _ _ dX14_minute_192 hR hS
        · have hf := ite_f c5 hf
          refine lv_aload_n hx hb dX14_minute_160 rfl (lv_at hl 0 rfl) ?_
          refine g_getr (b := (o + 35)) hx hb hts hown hG hR gFx_X14_114_11 shM.1 ((shM.2 34 _ rfl).2) dX14_minute_161 ?_
          refine lv_iload_n hx hb dX14_minute_164 rfl (lv_at hl 1 rfl) ?_
          obtain ⟨c6, hf⟩ := gd_some hf
          obtain ⟨v7, ev7, hf⟩ := lt_some hf
          refine n_iald (x := x1_0) hx hb hG hR k_a_heat c6 (ova_get 4 hN_A rfl) ev7 dX14_minute_165 ?_
          refine lv_iconst (v := 5) hx hb dX14_minute_166 li_5 ?_
          refine lv_aload_n hx hb dX14_minute_167 rfl (lv_at hl 0 rfl) ?_
          refine g_getr (b := (o + 34)) hx hb hts hown hG hR gFx_X14_111_11 shM.1 ((shM.2 33 _ rfl).2) dX14_minute_168 ?_
          refine lv_iload_n hx hb dX14_minute_171 rfl (lv_at hl 1 rfl) ?_
          obtain ⟨c8, hf⟩ := gd_some hf
          obtain ⟨v9, ev9, hf⟩ := lt_some hf
          refine n_iald (x := j50_a_wet) hx hb hG hR k_a_wet c8 (ova_get 3 hN_A rfl) ev9 dX14_minute_172 ?_
          refine lv_iconst (v := 2) hx hb dX14_minute_173 li_2 ?_
          obtain ⟨c11, hf⟩ := gd_some hf
          obtain ⟨v10, ev10, hf⟩ := lt_some hf
          refine n_idiv hx hb c11 ev10 dX14_minute_174 ?_
          obtain ⟨v12, ev12, hf⟩ := lt_some hf
          refine n_iadd hx hb ev12 dX14_minute_175 ?_
          have hj186 : ∀ (j186_a_burn : Nat → Int32), f14_minute_j186 w3_3 j186_a_burn = some o3 → ∀ (H : Heap) (locs : List Loc) (ls : Array Slot), RS G K (ov I [(1170, o, x2_0.1)]) J X (ova A [((o + 2), a_now), ((o + 32), x2_0.2.1), ((o + 33), j186_a_burn), ((o + 34), j50_a_wet), ((o + 35), x1_0)]) B Q H → va_S (gA G) s.heap H locs → lv_has ls 4 [(0, .ref o), (3, .int w3_3)] → W p l e ({ frames := 3, cells := 0, slots := 0, locals := 72 } : Room) s m args below meth c H locs 0 0 Z (F0 m 186 ls []) := by
            intro j186_a_burn hf H locs ls hR hS hl
            unfold f14_minute_j186 at hf
            obtain ⟨v13, ev13, hf⟩ := lt_some hf
            refine lv_iinc (k := 1) (v := v13) (lv' := [(3, .int v13), (0, .ref o)]) hx hb dX14_minute_186 hl rfl (by rw [ev13]; rfl) (by decide) rfl (fun ls hl => ?_)
            refine lv_goto (tgt := 152) hx hb dX14_minute_189 (by decide) ?_
            obtain rfl := some_i hf
            exact hk3 _ _ _ hR hS (lv_sub hl [1, 0] rfl)
          refine lv_icmp_lt (tgt := 186) hx hb dX14_minute_176 (by decide) (fun c14 => ?_) (fun c14 => ?_)
          · have hf := ite_t c14 hf
            exact hj186 w3_a_burn hf _ _ _ hR hS (lv_sub hl [0, 1] rfl)
          · have hf := ite_f c14 hf
            refine lv_aload_n hx hb dX14_minute_179 rfl (lv_at hl 0 rfl) ?_
            refine g_getr (b := (o + 33)) hx hb hts hown hG hR gFx_X14_108_11 shM.1 ((shM.2 32 _ rfl).2) dX14_minute_180 ?_
            refine lv_iload_n hx hb dX14_minute_183 rfl (lv_at hl 1 rfl) ?_
            refine lv_iconst (v := 1) hx hb dX14_minute_184 li_1 ?_
            obtain ⟨c15, hf⟩ := gd_some hf
            obtain ⟨u16, eu16, hf⟩ := lt_some hf
            refine n_iast (la' := [((o + 2), a_now), ((o + 32), x2_0.2.1), ((o + 33), u16), ((o + 34), j50_a_wet), ((o + 35), x1_0)]) hx hb hG hR hS k_a_burn c15 hN_A 2 rfl eu16 rfl dX14_minute_185 (fun H locs hR hS => ?_)
            exact hj186 u16 hf _ _ _ hR hS (lv_sub hl [0, 1] rfl)
      refine whl_walk (P := fun (s2 : Int32 × Int32 × (Nat → Int32) × (Nat → Int32)) => ∀ (H : Heap) (locs : List Loc) (ls : Array Slot), RS G K (ov I [(1170, o, s2.2.1)]) J X (ova A [((o + 2), a_now), ((o + 32), s2.2.2.1), ((o + 33), s2.2.2.2), ((o + 34), j50_a_wet), ((o + 35), x1_0)]) B Q H → va_S (gA G) s.heap H locs → lv_has ls 4 [(0, .ref o), (3, .int s2.1)] → W p l e ({ frames := 3, cells := 0, slots := 0, locals := 72 } : Room) s m args below meth c H locs 0 0 Z (F0 m 88 ls [])) (r := rl2) ?_ FU _ hw2 _ _ _ hR hS (lv_sub hl [1, 0] rfl)
      clear hR hS hl hf
      intro s2 o2 hf hk2 H locs ls hR hS hl
      obtain ⟨w2_3, w2_i_lost, w2_a_fuel, w2_a_burn⟩ := s2
      have hf : f14_minute_s2 a_now w2_3 w2_i_lost w2_a_fuel w2_a_burn = some o2 := hf
      have hR : RS G K (ov I [(1170, o, w2_i_lost)]) J X (ova A [((o + 2), a_now), ((o + 32), w2_a_fuel), ((o + 33), w2_a_burn), ((o + 34), j50_a_wet), ((o + 35), x1_0)]) B Q H := hR
      have hl : lv_has ls 4 [(0, .ref o), (3, .int w2_3)] := hl
      unfold f14_minute_s2 at hf
      refine lv_iload_n hx hb dX14_minute_88 rfl (lv_at hl 1 rfl) ?_
      refine lv_aload_n hx hb dX14_minute_89 rfl (lv_at hl 0 rfl) ?_
      obtain ⟨rr17, hrr17, hf⟩ := bind_s hf
      refine g0_cV (rm := (0, 0)) (As := []) (rest := [.int w2_3]) ⟨hx, hb, hml, hown, hts⟩ hG hR hS (m14_cells l G K (ov I [(1170, o, w2_i_lost)]) J X (ova A [((o + 2), a_now), ((o + 32), w2_a_fuel), ((o + 33), w2_a_burn), ((o + 34), j50_a_wet), ((o + 35), x1_0)]) B Q o shM a_now (ova_get 0 hN_A rfl) rr17 hrr17) (cwV 0 hts gi_X14_426 rfl rfl rfl hd_X14_cells ⟨Nat.le_of_ble_eq_true rfl, Nat.le_of_ble_eq_true rfl⟩) shM.1 rfl rfl hl.1 (Nat.le_of_ble_eq_true rfl) dX14_minute_90 ⟨Nat.le_refl _, Nat.le_refl _⟩ rfl (fun H locs hR hS => ?_)
      refine lv_icmp_ge (tgt := 150) hx hb dX14_minute_93 (by decide) (fun c18 => ?_) (fun c18 => ?_)
      · have hf := ite_t c18 hf
        obtain rfl := some_i hf
        replace hk2 : _ = rl2 := hk2
        subst hk2
        exact hx2_0 (w2_i_lost, w2_a_fuel, w2_a_burn) hfo2 _ _ _ hR hS (lv_sub hl [0] rfl)
      · have hf := ite_f c18 hf
        refine lv_aload_n hx hb dX14_minute_96 rfl (lv_at hl 0 rfl) ?_
        refine g_getr (b := (o + 33)) hx hb hts hown hG hR gFx_X14_108_11 shM.1 ((shM.2 32 _ rfl).2) dX14_minute_97 ?_
        refine lv_iload_n hx hb dX14_minute_100 rfl (lv_at hl 1 rfl) ?_
        obtain ⟨c19, hf⟩ := gd_some hf
        obtain ⟨v20, ev20, hf⟩ := lt_some hf
        refine n_iald (x := w2_a_burn) hx hb hG hR k_a_burn c19 (ova_get 2 hN_A rfl) ev20 dX14_minute_101 ?_
        have hj144 : ∀ (j144_i_lost : Int32) (j144_a_fuel : Nat → Int32) (j144_a_burn : Nat → Int32), f14_minute_j144 w2_3 j144_i_lost j144_a_fuel j144_a_burn = some o2 → ∀ (H : Heap) (locs : List Loc) (ls : Array Slot), RS G K (ov I [(1170, o, j144_i_lost)]) J X (ova A [((o + 2), a_now), ((o + 32), j144_a_fuel), ((o + 33), j144_a_burn), ((o + 34), j50_a_wet), ((o + 35), x1_0)]) B Q H → va_S (gA G) s.heap H locs → lv_has ls 4 [(0, .ref o), (3, .int w2_3)] → W p l e ({ frames := 3, cells := 0, slots := 0, locals := 72 } : Room) s m args below meth c H locs 0 0 Z (F0 m 144 ls []) := by
          intro j144_i_lost j144_a_fuel j144_a_burn hf H locs ls hR hS hl
          unfold f14_minute_j144 at hf
          obtain ⟨v21, ev21, hf⟩ := lt_some hf
          refine lv_iinc (k := 1) (v := v21) (lv' := [(3, .int v21), (0, .ref o)]) hx hb dX14_minute_144 hl rfl (by rw [ev21]; rfl) (by decide) rfl (fun ls hl => ?_)
          refine lv_goto (tgt := 88) hx hb dX14_minute_147 (by decide) ?_
          obtain rfl := some_i hf
          exact hk2 _ _ _ hR hS (lv_sub hl [1, 0] rfl)
        refine lv_if_ne (tgt := 108) hx hb dX14_minute_102 (by decide) (fun c22 => ?_) (fun c22 => ?_)
        · have hf := ite_f c22 hf
          refine lv_aload_n hx hb dX14_minute_108 rfl (lv_at hl 0 rfl) ?_
          refine g_getr (b := (o + 32)) hx hb hts hown hG hR gFx_X14_105_11 shM.1 ((shM.2 31 _ rfl).2) dX14_minute_109 ?_
          refine lv_iload_n hx hb dX14_minute_112 rfl (lv_at hl 1 rfl) ?_
          refine lv_dup2_11 hx hb dX14_minute_113 rfl rfl ?_
          obtain ⟨c23, hf⟩ := gd_some hf
          obtain ⟨v24, ev24, hf⟩ := lt_some hf
          refine n_iald (x := w2_a_fuel) hx hb hG hR k_a_fuel c23 (ova_get 1 hN_A rfl) ev24 dX14_minute_114 ?_
          refine lv_iconst (v := 1) hx hb dX14_minute_115 li_1 ?_
          obtain ⟨v25, ev25, hf⟩ := lt_some hf
          refine n_isub hx hb ev25 dX14_minute_116 ?_
          obtain ⟨c26, hf⟩ := gd_some hf
          obtain ⟨u27, eu27, hf⟩ := lt_some hf
          refine n_iast (la' := [((o + 2), a_now), ((o + 32), u27), ((o + 33), w2_a_burn), ((o + 34), j50_a_wet), ((o + 35), x1_0)]) hx hb hG hR hS k_a_fuel c26 hN_A 1 rfl eu27 rfl dX14_minute_117 (fun H locs hR hS => ?_)
          refine lv_aload_n hx hb dX14_minute_118 rfl (lv_at hl 0 rfl) ?_
          refine lv_dup hx hb dX14_minute_119 rfl ?_
          refine n_geti (v := w2_i_lost) hx hb hts hown hG hR gFi_X14_423_11 shM.1 (ov_get 0 rfl rfl) dX14_minute_120 ?_
          refine lv_iconst (v := 1) hx hb dX14_minute_123 li_1 ?_
          obtain ⟨v28, ev28, hf⟩ := lt_some hf
          refine n_iadd hx hb ev28 dX14_minute_124 ?_
          refine n_puti (li' := [(1170, o, v28)]) hx hb hts hown hG hR hS gPi_X14_423_11 shM.1 0 rfl rfl rfl dX14_minute_125 (fun H locs hR hS => ?_)
          refine lv_aload_n hx hb dX14_minute_128 rfl (lv_at hl 0 rfl) ?_
          refine g_getr (b := (o + 32)) hx hb hts hown hG hR gFx_X14_105_11 shM.1 ((shM.2 31 _ rfl).2) dX14_minute_129 ?_
          refine lv_iload_n hx hb dX14_minute_132 rfl (lv_at hl 1 rfl) ?_
          obtain ⟨c29, hf⟩ := gd_some hf
          obtain ⟨v30, ev30, hf⟩ := lt_some hf
          refine n_iald (x := u27) hx hb hG hR k_a_fuel c29 (ova_get 1 hN_A rfl) ev30 dX14_minute_133 ?_
          refine lv_if_ne (tgt := 144) hx hb dX14_minute_134 (by decide) (fun c31 => ?_) (fun c31 => ?_)
          · have hf := ite_f c31 hf
            exact hj144 v28 u27 w2_a_burn hf _ _ _ hR hS (lv_sub hl [0, 1] rfl)
          · have hf := ite_t c31 hf
            refine lv_aload_n hx hb dX14_minute_137 rfl (lv_at hl 0 rfl) ?_
            refine g_getr (b := (o + 33)) hx hb hts hown hG hR gFx_X14_108_11 shM.1 ((shM.2 32 _ rfl).2) dX14_minute_138 ?_
            refine lv_iload_n hx hb dX14_minute_141 rfl (lv_at hl 1 rfl) ?_
            refine lv_iconst (v := 0) hx hb dX14_minute_142 li_0 ?_
            obtain ⟨c32, hf⟩ := gd_some hf
            obtain ⟨u33, eu33, hf⟩ := lt_some hf
            refine n_iast (la' := [((o + 2), a_now), ((o + 32), u27), ((o + 33), u33), ((o + 34), j50_a_wet), ((o + 35), x1_0)]) hx hb hG hR hS k_a_burn c32 hN_A 2 rfl eu33 rfl dX14_minute_143 (fun H locs hR hS => ?_)
            exact hj144 v28 u27 u33 hf _ _ _ hR hS (lv_sub hl [0, 1] rfl)
        · have hf := ite_t c22 hf
          refine lv_goto (tgt := 144) hx hb dX14_minute_105 (by decide) ?_
          exact hj144 w2_i_lost w2_a_fuel w2_a_burn hf _ _ _ hR hS (lv_sub hl [0, 1] rfl)
    refine whl_walk (P := fun (s1 : Int32 × (Nat → Int32)) => ∀ (H : Heap) (locs : List Loc) (ls : Array Slot), RS G K (ov I [(1170, o, i_lost)]) J X (ova A [((o + 2), a_now), ((o + 32), a_fuel), ((o + 33), j50_a_burn), ((o + 34), j50_a_wet), ((o + 35), s1.2)]) B Q H → va_S (gA G) s.heap H locs → lv_has ls 4 [(0, .ref o), (3, .int s1.1)] → W p l e ({ frames := 3, cells := 0, slots := 0, locals := 72 } : Room) s m args below meth c H locs 0 0 Z (F0 m 52 ls [])) (r := rl1) ?_ FU _ hw1 _ _ _ hR hS (lv_sub hl [1, 0] rfl)
    clear hR hS hl hf
    intro s1 o1 hf hk1 H locs ls hR hS hl
    obtain ⟨w1_3, w1_a_heat⟩ := s1
    have hf : f14_minute_s1 a_now a_fuel j50_a_burn w1_3 w1_a_heat = some o1 := hf
    have hR : RS G K (ov I [(1170, o, i_lost)]) J X (ova A [((o + 2), a_now), ((o + 32), a_fuel), ((o + 33), j50_a_burn), ((o + 34), j50_a_wet), ((o + 35), w1_a_heat)]) B Q H := hR
    have hl : lv_has ls 4 [(0, .ref o), (3, .int w1_3)] := hl
    unfold f14_minute_s1 at hf
    refine lv_iload_n hx hb dX14_minute_52 rfl (lv_at hl 1 rfl) ?_
    refine lv_aload_n hx hb dX14_minute_53 rfl (lv_at hl 0 rfl) ?_
    obtain ⟨rr34, hrr34, hf⟩ := bind_s hf
    refine g0_cV (rm := (0, 0)) (As := []) (rest := [.int w1_3]) ⟨hx, hb, hml, hown, hts⟩ hG hR hS (m14_cells l G K (ov I [(1170, o, i_lost)]) J X (ova A [((o + 2), a_now), ((o + 32), a_fuel), ((o + 33), j50_a_burn), ((o + 34), j50_a_wet), ((o + 35), w1_a_heat)]) B Q o shM a_now (ova_get 0 hN_A rfl) rr34 hrr34) (cwV 0 hts gi_X14_426 rfl rfl rfl hd_X14_cells ⟨Nat.le_of_ble_eq_true rfl, Nat.le_of_ble_eq_true rfl⟩) shM.1 rfl rfl hl.1 (Nat.le_of_ble_eq_true rfl) dX14_minute_54 ⟨Nat.le_refl _, Nat.le_refl _⟩ rfl (fun H locs hR hS => ?_)
    refine lv_icmp_ge (tgt := 86) hx hb dX14_minute_57 (by decide) (fun c35 => ?_) (fun c35 => ?_)
    · have hf := ite_t c35 hf
      obtain rfl := some_i hf
      replace hk1 : _ = rl1 := hk1
      subst hk1
      exact hx1_0 w1_a_heat hfo1 _ _ _ hR hS (lv_sub hl [0] rfl)
    · have hf := ite_f c35 hf
      refine lv_aload_n hx hb dX14_minute_60 rfl (lv_at hl 0 rfl) ?_
      refine g_getr (b := (o + 35)) hx hb hts hown hG hR gFx_X14_114_11 shM.1 ((shM.2 34 _ rfl).2) dX14_minute_61 ?_
      refine lv_iload_n hx hb dX14_minute_64 rfl (lv_at hl 1 rfl) ?_
      refine lv_aload_n hx hb dX14_minute_65 rfl (lv_at hl 0 rfl) ?_
      refine lv_iload_n hx hb dX14_minute_66 rfl (lv_at hl 1 rfl) ?_
      refine lv_aload_n hx hb dX14_minute_67 rfl (lv_at hl 0 rfl) ?_
      refine g_getr (b := (o + 32)) hx hb hts hown hG hR gFx_X14_105_11 shM.1 ((shM.2 31 _ rfl).2) dX14_minute_68 ?_
      refine lv_aload_n hx hb dX14_minute_71 rfl (lv_at hl 0 rfl) ?_
      refine g_getr (b := (o + 33)) hx hb hts hown hG hR gFx_X14_108_11 shM.1 ((shM.2 32 _ rfl).2) dX14_minute_72 ?_
      refine lv_iconst (v := 0) hx hb dX14_minute_75 li_0 ?_
      obtain ⟨rr36, hrr36, hf⟩ := bind_s hf
      refine g0_cV (rm := (2, 44)) (As := [.int w1_3, .ref (o + 32), .ref (o + 33), .int (0 : Int32)]) (rest := [.int w1_3, .ref (o + 35)]) ⟨hx, hb, hml, hown, hts⟩ hG hR hS (m14_heatOf l G K (ov I [(1170, o, i_lost)]) J X (ova A [((o + 2), a_now), ((o + 32), a_fuel), ((o + 33), j50_a_burn), ((o + 34), j50_a_wet), ((o + 35), w1_a_heat)]) B Q o shM (o + 32) 64 k_a_fuel (o + 33) 64 k_a_burn w1_3 (0 : Int32) a_now a_fuel j50_a_burn (ova_get 0 hN_A rfl) (ova_get 1 hN_A rfl) (ova_get 2 hN_A rfl) rr36 hrr36) (cwV 4 hts gi_X14_432 rfl rfl rfl hd_X14_heatOf ⟨Nat.le_of_ble_eq_true rfl, Nat.le_of_ble_eq_true rfl⟩) shM.1 rfl rfl hl.1 (Nat.le_of_ble_eq_true rfl) dX14_minute_76 ⟨Nat.le_refl _, Nat.le_refl _⟩ rfl (fun H locs hR hS => ?_)
      obtain ⟨c37, hf⟩ := gd_some hf
      obtain ⟨u38, eu38, hf⟩ := lt_some hf
      refine n_iast (la' := [((o + 2), a_now), ((o + 32), a_fuel), ((o + 33), j50_a_burn), ((o + 34), j50_a_wet), ((o + 35), u38)]) hx hb hG hR hS k_a_heat c37 hN_A 4 rfl eu38 rfl dX14_minute_79 (fun H locs hR hS => ?_)
      obtain ⟨v39, ev39, hf⟩ := lt_some hf
      refine lv_iinc (k := 1) (v := v39) (lv' := [(3, .int v39), (0, .ref o)]) hx hb dX14_minute_80 hl rfl (by rw [ev39]; rfl) (by decide) rfl (fun ls hl => ?_)
      refine lv_goto (tgt := 52) hx hb dX14_minute_83 (by decide) ?_
      obtain rfl := some_i hf
      exact hk1 _ _ _ hR hS (lv_sub hl [1, 0] rfl)
  refine lv_icmp_eq (tgt := 50) hx hb dX14_minute_2 (by decide) (fun c40 => ?_) (fun c40 => ?_)
  · have hf := ite_t c40 hf
    exact hj50 a_burn a_wet hf _ _ _ hR hS (lv_sub hl [0] rfl)
  · have hf := ite_f c40 hf
    refine lv_aload_n hx hb dX14_minute_5 rfl (lv_at hl 0 rfl) ?_
    refine g_getr (b := (o + 34)) hx hb hts hown hG hR gFx_X14_111_11 shM.1 ((shM.2 33 _ rfl).2) dX14_minute_6 ?_
    refine lv_iload_n hx hb dX14_minute_9 rfl (lv_at hl 1 rfl) ?_
    refine lv_dup2_11 hx hb dX14_minute_10 rfl rfl ?_
    obtain ⟨c41, hf⟩ := gd_some hf
    obtain ⟨v42, ev42, hf⟩ := lt_some hf
    refine n_iald (x := a_wet) hx hb hG hR k_a_wet c41 (ova_get 3 hN_A rfl) ev42 dX14_minute_11 ?_
    refine lv_iload_n hx hb dX14_minute_12 rfl (lv_at hl 2 rfl) ?_
    obtain ⟨v43, ev43, hf⟩ := lt_some hf
    refine n_iadd hx hb ev43 dX14_minute_13 ?_
    obtain ⟨c44, hf⟩ := gd_some hf
    obtain ⟨u45, eu45, hf⟩ := lt_some hf
    refine n_iast (la' := [((o + 2), a_now), ((o + 32), a_fuel), ((o + 33), a_burn), ((o + 34), u45), ((o + 35), a_heat)]) hx hb hG hR hS k_a_wet c44 hN_A 3 rfl eu45 rfl dX14_minute_14 (fun H locs hR hS => ?_)
    refine lv_aload_n hx hb dX14_minute_15 rfl (lv_at hl 0 rfl) ?_
    refine g_getr (b := (o + 33)) hx hb hts hown hG hR gFx_X14_108_11 shM.1 ((shM.2 32 _ rfl).2) dX14_minute_16 ?_
    refine lv_iload_n hx hb dX14_minute_19 rfl (lv_at hl 1 rfl) ?_
    obtain ⟨c46, hf⟩ := gd_some hf
    obtain ⟨v47, ev47, hf⟩ := lt_some hf
    refine n_iald (x := a_burn) hx hb hG hR k_a_burn c46 (ova_get 2 hN_A rfl) ev47 dX14_minute_20 ?_
    refine lv_iconst (v := 1) hx hb dX14_minute_21 li_1 ?_
    refine lv_icmp_ne (tgt := 50) hx hb dX14_minute_22 (by decide) (fun c48 => ?_) (fun c48 => ?_)
    · have hf := ite_f c48 hf
      exact hj50 a_burn u45 hf _ _ _ hR hS (lv_sub hl [0] rfl)
    · have hf := ite_t c48 hf
      refine lv_aload_n hx hb dX14_minute_25 rfl (lv_at hl 0 rfl) ?_
      refine g_getr (b := (o + 34)) hx hb hts hown hG hR gFx_X14_111_11 shM.1 ((shM.2 33 _ rfl).2) dX14_minute_26 ?_
      refine lv_iload_n hx hb dX14_minute_29 rfl (lv_at hl 1 rfl) ?_
      obtain ⟨c49, hf⟩ := gd_some hf
      obtain ⟨v50, ev50, hf⟩ := lt_some hf
      refine n_iald (x := u45) hx hb hG hR k_a_wet c49 (ova_get 3 hN_A rfl) ev50 dX14_minute_30 ?_
      refine lv_bipush (v := 10) hx hb dX14_minute_31 lb_10 ?_
      refine lv_aload_n hx hb dX14_minute_33 rfl (lv_at hl 0 rfl) ?_
      refine g_getr (b := (o + 32)) hx hb hts hown hG hR gFx_X14_105_11 shM.1 ((shM.2 31 _ rfl).2) dX14_minute_34 ?_
      refine lv_iload_n hx hb dX14_minute_37 rfl (lv_at hl 1 rfl) ?_
      obtain ⟨c51, hf⟩ := gd_some hf
      obtain ⟨v52, ev52, hf⟩ := lt_some hf
      refine n_iald (x := a_fuel) hx hb hG hR k_a_fuel c51 (ova_get 1 hN_A rfl) ev52 dX14_minute_38 ?_
      obtain ⟨v53, ev53, hf⟩ := lt_some hf
      refine n_imul hx hb ev53 dX14_minute_39 ?_
      refine lv_icmp_lt (tgt := 50) hx hb dX14_minute_40 (by decide) (fun c54 => ?_) (fun c54 => ?_)
      · have hf := ite_t c54 hf
        exact hj50 a_burn u45 hf _ _ _ hR hS (lv_sub hl [0] rfl)
      · have hf := ite_f c54 hf
        refine lv_aload_n hx hb dX14_minute_43 rfl (lv_at hl 0 rfl) ?_
        refine g_getr (b := (o + 33)) hx hb hts hown hG hR gFx_X14_108_11 shM.1 ((shM.2 32 _ rfl).2) dX14_minute_44 ?_
        refine lv_iload_n hx hb dX14_minute_47 rfl (lv_at hl 1 rfl) ?_
        refine lv_iconst (v := 0) hx hb dX14_minute_48 li_0 ?_
        obtain ⟨c55, hf⟩ := gd_some hf
        obtain ⟨u56, eu56, hf⟩ := lt_some hf
        refine n_iast (la' := [((o + 2), a_now), ((o + 32), a_fuel), ((o + 33), u56), ((o + 34), u45), ((o + 35), a_heat)]) hx hb hG hR hS k_a_burn c55 hN_A 2 rfl eu56 rfl dX14_minute_49 (fun H locs hR hS => ?_)
        exact hj50 u56 u45 hf _ _ _ hR hS (lv_sub hl [0] rfl)
noncomputable def f14_readMen_e1_0 (p1 : Int32) (i_fault : Int32) (i_at : Int32) (x1_0 : Int32 × Int32 × Int32 × Int32 × Int32 × Int32 × Int64 × (Nat → Int32)) : Option (Int32 × Int32 × Int32 × Int32 × Int32 × Int32 × Int32 × Int32 × Int64 × (Nat → Int32)) :=
  lt (p1 + (2 : Int32)) fun v2 =>
  gd (inb v2 320) <|
  lt (upd x1_0.2.2.2.2.2.2.2 v2.toNatClampNeg x1_0.1) fun u4 =>
  some ((1 : Int32), x1_0.2.1, x1_0.2.2.1, x1_0.2.2.2.1, x1_0.2.2.2.2.1, x1_0.2.2.2.2.2.1, i_fault, i_at, x1_0.2.2.2.2.2.2.1, u4)

noncomputable def f14_readMen_e1_1 (i_fault : Int32) (i_at : Int32) (x1_1 : Int32 × Int32 × Int32 × Int32 × Int32 × Int64 × (Nat → Int32)) : Option (Int32 × Int32 × Int32 × Int32 × Int32 × Int32 × Int32 × Int32 × Int64 × (Nat → Int32)) :=
  (f14_bad (1 : Int32) x1_1.2.1 x1_1.2.2.1 i_fault i_at).bind fun rr5 =>
  gd (rr5.1 &&& 1 = rr5.1) <|
  some (rr5.1, x1_1.1, x1_1.2.1, x1_1.2.2.1, x1_1.2.2.2.1, x1_1.2.2.2.2.1, rr5.2.1, rr5.2.2, x1_1.2.2.2.2.2.1, x1_1.2.2.2.2.2.2)

noncomputable def f14_readMen_e1_2 (i_fault : Int32) (i_at : Int32) (x1_2 : Int32 × Int32 × Int32 × Int32 × Int32 × Int64 × (Nat → Int32)) : Option (Int32 × Int32 × Int32 × Int32 × Int32 × Int32 × Int32 × Int32 × Int64 × (Nat → Int32)) :=
  (f14_bad (3 : Int32) x1_2.2.1 x1_2.2.2.1 i_fault i_at).bind fun rr6 =>
  gd (rr6.1 &&& 1 = rr6.1) <|
  some (rr6.1, x1_2.1, x1_2.2.1, x1_2.2.2.1, x1_2.2.2.2.1, x1_2.2.2.2.2.1, rr6.2.1, rr6.2.2, x1_2.2.2.2.2.2.1, x1_2.2.2.2.2.2.2)

noncomputable def f14_readMen_j19 (p1 : Int32) (i_size : Int32) (i_limit : Int32) (a_tape : Nat → Int32) (a_now : Nat → Int32) (b_name : Nat → Int64) (w1_3 : Int32) (w1_4 : Int32) (w1_i_to : Int32) (w1_i_from : Int32) (w1_i_kind : Int32) (w1_i_number : Int32) (w1_i_sign : Int32) (w1_j_word : Int64) (w1_a_plan : Nat → Int32) : Option ((Int32 × Int32 × Int32 × Int32 × Int32 × Int32 × Int32 × Int64 × (Nat → Int32)) ⊕ ((Int32 × Int32 × Int32 × Int32 × Int32 × Int32 × Int64 × (Nat → Int32)) ⊕ ((Int32 × Int32 × Int32 × Int32 × Int32 × Int64 × (Nat → Int32)) ⊕ (Int32 × Int32 × Int32 × Int32 × Int32 × Int64 × (Nat → Int32))))) :=
  (f14_isName w1_i_kind w1_j_word).bind fun rr7 =>
  if rr7 = 0 then
    some (.inr (.inr (.inl (w1_i_to, w1_i_from, w1_i_kind, w1_i_number, w1_i_sign, w1_j_word, w1_a_plan))))
  else
    (f14_manAtHand w1_j_word a_now b_name).bind fun rr9 =>
    if rr9 = (-1 : Int32) then
      some (.inr (.inr (.inr (w1_i_to, w1_i_from, w1_i_kind, w1_i_number, w1_i_sign, w1_j_word, w1_a_plan))))
    else
      (f14_has w1_3 rr9).bind fun rr11 =>
      if rr11 = 0 then
        lt ((1 : Int32) <<< (rr9 &&& 31)) fun v13 =>
        lt (w1_3 ||| v13) fun v14 =>
        lt (p1 + (3 : Int32)) fun v15 =>
        lt (v15 + w1_4) fun v16 =>
        gd (inb v16 320) <|
        lt (upd w1_a_plan v16.toNatClampNeg rr9) fun u18 =>
        lt (w1_4 + (1 : Int32)) fun v19 =>
        (f14_go i_size i_limit w1_i_to w1_i_from w1_i_kind w1_i_number w1_i_sign w1_j_word a_tape).bind fun rr20 =>
        some (.inl (v14, v19, rr20.1, rr20.2.1, rr20.2.2.1, rr20.2.2.2.1, rr20.2.2.2.2.1, rr20.2.2.2.2.2, u18))
      else
        some (.inr (.inr (.inr (w1_i_to, w1_i_from, w1_i_kind, w1_i_number, w1_i_sign, w1_j_word, w1_a_plan))))

noncomputable def f14_readMen_s1 (p1 : Int32) (p2 : Int32) (i_size : Int32) (i_limit : Int32) (a_tape : Nat → Int32) (a_now : Nat → Int32) (b_name : Nat → Int64) (w1_3 : Int32) (w1_4 : Int32) (w1_i_to : Int32) (w1_i_from : Int32) (w1_i_kind : Int32) (w1_i_number : Int32) (w1_i_sign : Int32) (w1_j_word : Int64) (w1_a_plan : Nat → Int32) : Option ((Int32 × Int32 × Int32 × Int32 × Int32 × Int32 × Int32 × Int64 × (Nat → Int32)) ⊕ ((Int32 × Int32 × Int32 × Int32 × Int32 × Int32 × Int64 × (Nat → Int32)) ⊕ ((Int32 × Int32 × Int32 × Int32 × Int32 × Int64 × (Nat → Int32)) ⊕ (Int32 × Int32 × Int32 × Int32 × Int32 × Int64 × (Nat → Int32))))) :=
  if w1_4 < p2 then
    f14_readMen_j19 p1 i_size i_limit a_tape a_now b_name w1_3 w1_4 w1_i_to w1_i_from w1_i_kind w1_i_number w1_i_sign w1_j_word w1_a_plan
  else
    if w1_i_kind = (2 : Int32) then
      f14_readMen_j19 p1 i_size i_limit a_tape a_now b_name w1_3 w1_4 w1_i_to w1_i_from w1_i_kind w1_i_number w1_i_sign w1_j_word w1_a_plan
    else
      some (.inr (.inl (w1_4, w1_i_to, w1_i_from, w1_i_kind, w1_i_number, w1_i_sign, w1_j_word, w1_a_plan)))

noncomputable def f14_readMen (p1 : Int32) (p2 : Int32) (i_size : Int32) (i_limit : Int32) (i_to : Int32) (i_from : Int32) (i_kind : Int32) (i_number : Int32) (i_sign : Int32) (i_fault : Int32) (i_at : Int32) (j_word : Int64) (a_tape : Nat → Int32) (a_now : Nat → Int32) (a_plan : Nat → Int32) (b_name : Nat → Int64) : Option (Int32 × Int32 × Int32 × Int32 × Int32 × Int32 × Int32 × Int32 × Int64 × (Nat → Int32)) :=
  (whl (fun (s1 : Int32 × Int32 × Int32 × Int32 × Int32 × Int32 × Int32 × Int64 × (Nat → Int32)) => f14_readMen_s1 p1 p2 i_size i_limit a_tape a_now b_name s1.1 s1.2.1 s1.2.2.1 s1.2.2.2.1 s1.2.2.2.2.1 s1.2.2.2.2.2.1 s1.2.2.2.2.2.2.1 s1.2.2.2.2.2.2.2.1 s1.2.2.2.2.2.2.2.2) FU ((0 : Int32), (0 : Int32), i_to, i_from, i_kind, i_number, i_sign, j_word, a_plan)).bind fun rl1 =>
  Sum.elim (f14_readMen_e1_0 p1 i_fault i_at) (Sum.elim (f14_readMen_e1_1 i_fault i_at) (f14_readMen_e1_2 i_fault i_at)) rl1
set_option maxHeartbeats 4000000 in
theorem m14_readMen (l : Launch) (G : gG) (K : gK) (I : gI) (J : gJ) (X : gX) (A : gI) (B : gJ) (Q : gX) (o : Nat) (shM : Sh K X o 11 rows11) (p1 : Int32) (p2 : Int32) (i_size : Int32) (i_limit : Int32) (i_to : Int32) (i_from : Int32) (i_kind : Int32) (i_number : Int32) (i_sign : Int32) (i_fault : Int32) (i_at : Int32) (j_word : Int64) (a_tape : Nat → Int32) (a_now : Nat → Int32) (a_plan : Nat → Int32) (b_name : Nat → Int64) (e_i_size : I 1103 o = i_size) (e_i_limit : I 1104 o = i_limit) (e_i_to : I 1105 o = i_to) (e_i_from : I 1106 o = i_from) (e_i_kind : I 1107 o = i_kind) (e_i_number : I 1108 o = i_number) (e_i_sign : I 1109 o = i_sign) (e_i_fault : I 1110 o = i_fault) (e_i_at : I 1111 o = i_at) (e_j_word : J 1112 o = j_word) (e_a_tape : A (o + 1) = a_tape) (e_a_now : A (o + 2) = a_now) (e_a_plan : A (o + 4) = a_plan) (e_b_name : B (o + 6) = b_name) (out : Int32 × Int32 × Int32 × Int32 × Int32 × Int32 × Int32 × Int32 × Int64 × (Nat → Int32)) (hf : f14_readMen p1 p2 i_size i_limit i_to i_from i_kind i_number i_sign i_fault i_at j_word a_tape a_now a_plan b_name = some out) : GMet l yX14_readMen cX14_readMen 6 (some .boolean) (3) (67) G [.ref o, .int p1, .int p2] K I J X A B Q (some (.int out.1)) K (ov I [(1105, o, out.2.1), (1106, o, out.2.2.1), (1107, o, out.2.2.2.1), (1108, o, out.2.2.2.2.1), (1109, o, out.2.2.2.2.2.1), (1110, o, out.2.2.2.2.2.2.1), (1111, o, out.2.2.2.2.2.2.2.1)]) (ov J [(1112, o, out.2.2.2.2.2.2.2.2.1)]) X (ova A [((o + 1), a_tape), ((o + 2), a_now), ((o + 4), out.2.2.2.2.2.2.2.2.2)]) B Q 0 0 := by
  refine GMet.of (y := yX14_readMen) rfl (Nat.le_of_ble_eq_true rfl) rfl ?_
  intro p e s m below meth c ls hx hb hr hml hlocks hts hown hname hG hR hl
  have hown : s.vm.findClass RX14 = some m.cls := hown
  have k_a_tape : K (o + 1) = some (.inr (0, 740)) := (shM.2 0 _ rfl).1
  have k_a_now : K (o + 2) = some (.inr (0, 800)) := (shM.2 1 _ rfl).1
  have k_a_plan : K (o + 4) = some (.inr (0, 320)) := (shM.2 3 _ rfl).1
  have k_b_name : K (o + 6) = some (.inr (3, 12)) := (shM.2 5 _ rfl).1
  have hN_A : nda [(o + 1), (o + 2), (o + 4)] := nd_off o [1, 2, 4] rfl
  have hR : RS G K (ov I [(1105, o, i_to), (1106, o, i_from), (1107, o, i_kind), (1108, o, i_number), (1109, o, i_sign), (1110, o, i_fault), (1111, o, i_at)]) (ov J [(1112, o, j_word)]) X (ova A [((o + 1), a_tape), ((o + 2), a_now), ((o + 4), a_plan)]) B Q s.heap := hR.to (Eq.symm (ov_sc e_i_to (ov_sc e_i_from (ov_sc e_i_kind (ov_sc e_i_number (ov_sc e_i_sign (ov_sc e_i_fault (ov_sc e_i_at rfl)))))))) (Eq.symm (ov_sc e_j_word rfl)) rfl (Eq.symm (ova_sc e_a_tape (ova_sc e_a_now (ova_sc e_a_plan rfl)))) rfl rfl
  have hS : va_S (gA G) s.heap s.heap [] := va_S.rf
  have hend : ∀ (pc : Nat) (H : Heap) (locs : List Loc) (ls : Array Slot), decode cX14_readMen pc = .ok (.ireturn, 1) → narrow .boolean (.int out.1) = .int out.1 → RS G K (ov I [(1105, o, out.2.1), (1106, o, out.2.2.1), (1107, o, out.2.2.2.1), (1108, o, out.2.2.2.2.1), (1109, o, out.2.2.2.2.2.1), (1110, o, out.2.2.2.2.2.2.1), (1111, o, out.2.2.2.2.2.2.2.1)]) (ov J [(1112, o, out.2.2.2.2.2.2.2.2.1)]) X (ova A [((o + 1), a_tape), ((o + 2), a_now), ((o + 4), out.2.2.2.2.2.2.2.2.2)]) B Q H → va_S (gA G) s.heap H locs → W p l e ({ frames := 3, cells := 0, slots := 0, locals := 67 } : Room) s m ([.ref o, .int p1, .int p2] : List Value).toArray below meth c H locs 0 0 (MQ below (gQ G (some (.int out.1)) K (ov I [(1105, o, out.2.1), (1106, o, out.2.2.1), (1107, o, out.2.2.2.1), (1108, o, out.2.2.2.2.1), (1109, o, out.2.2.2.2.2.1), (1110, o, out.2.2.2.2.2.2.1), (1111, o, out.2.2.2.2.2.2.2.1)]) (ov J [(1112, o, out.2.2.2.2.2.2.2.2.1)]) X (ova A [((o + 1), a_tape), ((o + 2), a_now), ((o + 4), out.2.2.2.2.2.2.2.2.2)]) B Q) ([.ref o, .int p1, .int p2] : List Value).toArray s 0 0 (gA G)) (F0 m pc ls [.int out.1]) := fun pc H locs ls hd hz hR hS => g_zret hx hb hr hlocks hz hG hR hS rfl hd
  generalize MQ below (gQ G (some (.int out.1)) K (ov I [(1105, o, out.2.1), (1106, o, out.2.2.1), (1107, o, out.2.2.2.1), (1108, o, out.2.2.2.2.1), (1109, o, out.2.2.2.2.2.1), (1110, o, out.2.2.2.2.2.2.1), (1111, o, out.2.2.2.2.2.2.2.1)]) (ov J [(1112, o, out.2.2.2.2.2.2.2.2.1)]) X (ova A [((o + 1), a_tape), ((o + 2), a_now), ((o + 4), out.2.2.2.2.2.2.2.2.2)]) B Q) ([.ref o, .int p1, .int p2] : List Value).toArray s 0 0 (gA G) = Z at hend ⊢
  generalize ([.ref o, .int p1, .int p2] : List Value).toArray = args at hts hend ⊢
  unfold f14_readMen at hf
  refine lv_iconst (v := 0) hx hb dX14_readMen_0 li_0 ?_
  refine lv_istore_n (lv' := [(3, .int (0 : Int32)), (0, .ref o), (1, .int p1), (2, .int p2)]) hx hb dX14_readMen_1 rfl hl (by decide) rfl (fun ls hl => ?_)
  refine lv_iconst (v := 0) hx hb dX14_readMen_2 li_0 ?_
  refine lv_istore (lv' := [(4, .int (0 : Int32)), (3, .int (0 : Int32)), (0, .ref o), (1, .int p1), (2, .int p2)]) hx hb dX14_readMen_3 hl (by decide) rfl (fun ls hl => ?_)
  obtain ⟨rl1, hw1, hfo1⟩ := bind_s hf
  have hx1_0 : ∀ (x1_0 : Int32 × Int32 × Int32 × Int32 × Int32 × Int32 × Int64 × (Nat → Int32)), f14_readMen_e1_0 p1 i_fault i_at x1_0 = some out → ∀ (H : Heap) (locs : List Loc) (ls : Array Slot), RS G K (ov I [(1105, o, x1_0.2.1), (1106, o, x1_0.2.2.1), (1107, o, x1_0.2.2.2.1), (1108, o, x1_0.2.2.2.2.1), (1109, o, x1_0.2.2.2.2.2.1), (1110, o, i_fault), (1111, o, i_at)]) (ov J [(1112, o, x1_0.2.2.2.2.2.2.1)]) X (ova A [((o + 1), a_tape), ((o + 2), a_now), ((o + 4), x1_0.2.2.2.2.2.2.2)]) B Q H → va_S (gA G) s.heap H locs → lv_has ls 6 [(0, .ref o), (1, .int p1), (4, .int x1_0.1)] → W p l e ({ frames := 3, cells := 0, slots := 0, locals := 67 } : Room) s m args below meth c H locs 0 0 Z (F0 m 89 ls []) := by
    intro x1_0 hf H locs ls hR hS hl
    unfold f14_readMen_e1_0 at hf
    refine lv_aload_n hx hb dX14_readMen_89 rfl (lv_at hl 0 rfl) ?_
    refine g_getr (b := (o + 4)) hx hb hts hown hG hR gFx_X14_19_11 shM.1 ((shM.2 3 _ rfl).2) dX14_readMen_90 ?_
    refine lv_iload_n hx hb dX14_readMen_93 rfl (lv_at hl 1 rfl) ?_
    refine lv_iconst (v := 2) hx hb dX14_readMen_94 li_2 ?_
    obtain ⟨v2, ev2, hf⟩ := lt_some hf
    refine n_iadd hx hb ev2 dX14_readMen_95 ?_
    refine lv_iload hx hb dX14_readMen_96 (lv_at hl 2 rfl) ?_
    obtain ⟨c3, hf⟩ := gd_some hf
    obtain ⟨u4, eu4, hf⟩ := lt_some hf
    refine n_iast (la' := [((o + 1), a_tape), ((o + 2), a_now), ((o + 4), u4)]) hx hb hG hR hS k_a_plan c3 hN_A 2 rfl eu4 rfl dX14_readMen_98 (fun H locs hR hS => ?_)
    refine lv_iconst (v := 1) hx hb dX14_readMen_99 li_1 ?_
    obtain rfl := some_i hf
    exact hend _ _ _ _ dX14_readMen_100 nz_1 hR hS
  have hx1_1 : ∀ (x1_1 : Int32 × Int32 × Int32 × Int32 × Int32 × Int64 × (Nat → Int32)), f14_readMen_e1_1 i_fault i_at x1_1 = some out → ∀ (H : Heap) (locs : List Loc) (ls : Array Slot), RS G K (ov I [(1105, o, x1_1.1), (1106, o, x1_1.2.1), (1107, o, x1_1.2.2.1), (1108, o, x1_1.2.2.2.1), (1109, o, x1_1.2.2.2.2.1), (1110, o, i_fault), (1111, o, i_at)]) (ov J [(1112, o, x1_1.2.2.2.2.2.1)]) X (ova A [((o + 1), a_tape), ((o + 2), a_now), ((o + 4), x1_1.2.2.2.2.2.2)]) B Q H → va_S (gA G) s.heap H locs → lv_has ls 6 [(0, .ref o)] → W p l e ({ frames := 3, cells := 0, slots := 0, locals := 67 } : Room) s m args below meth c H locs 0 0 Z (F0 m 26 ls []) := by
    intro x1_1 hf H locs ls hR hS hl
    unfold f14_readMen_e1_1 at hf
    refine lv_aload_n hx hb dX14_readMen_26 rfl (lv_at hl 0 rfl) ?_
    refine lv_iconst (v := 1) hx hb dX14_readMen_27 li_1 ?_
    obtain ⟨rr5, hrr5, hf⟩ := bind_s hf
    refine g0_cV (rm := (0, 0)) (As := [.int (1 : Int32)]) (rest := []) ⟨hx, hb, hml, hown, hts⟩ hG hR hS (m14_bad l G K (ov I [(1105, o, x1_1.1), (1106, o, x1_1.2.1), (1107, o, x1_1.2.2.1), (1108, o, x1_1.2.2.2.1), (1109, o, x1_1.2.2.2.2.1), (1110, o, i_fault), (1111, o, i_at)]) (ov J [(1112, o, x1_1.2.2.2.2.2.1)]) X (ova A [((o + 1), a_tape), ((o + 2), a_now), ((o + 4), x1_1.2.2.2.2.2.2)]) B Q o shM (1 : Int32) x1_1.2.1 x1_1.2.2.1 i_fault i_at (ov_get 1 rfl rfl) (ov_get 2 rfl rfl) (ov_get 5 rfl rfl) (ov_get 6 rfl rfl) rr5 hrr5) (cwV 1 hts gi_X14_216 rfl rfl rfl hd_X14_bad ⟨Nat.le_of_ble_eq_true rfl, Nat.le_of_ble_eq_true rfl⟩) shM.1 rfl rfl hl.1 (Nat.le_of_ble_eq_true rfl) dX14_readMen_28 ⟨Nat.le_refl _, Nat.le_refl _⟩ rfl (fun H locs hR hS => ?_)
    have hR : RS G K (ov I [(1105, o, x1_1.1), (1106, o, x1_1.2.1), (1107, o, x1_1.2.2.1), (1108, o, x1_1.2.2.2.1), (1109, o, x1_1.2.2.2.2.1), (1110, o, rr5.2.1), (1111, o, rr5.2.2)]) (ov J [(1112, o, x1_1.2.2.2.2.2.1)]) X (ova A [((o + 1), a_tape), ((o + 2), a_now), ((o + 4), x1_1.2.2.2.2.2.2)]) B Q H := hR.to (ov_merge (l := [(1105, o, x1_1.1), (1106, o, x1_1.2.1), (1107, o, x1_1.2.2.1), (1108, o, x1_1.2.2.2.1), (1109, o, x1_1.2.2.2.2.1), (1110, o, i_fault), (1111, o, i_at)]) rfl [5, 6] [(1110, o, rr5.2.1), (1111, o, rr5.2.2)] rfl rfl) rfl rfl rfl rfl rfl
    obtain ⟨hz9, hf⟩ := gd_some hf
    obtain rfl := some_i hf
    exact hend _ _ _ _ dX14_readMen_31 (congrArg Value.int hz9) hR hS
  have hx1_2 : ∀ (x1_2 : Int32 × Int32 × Int32 × Int32 × Int32 × Int64 × (Nat → Int32)), f14_readMen_e1_2 i_fault i_at x1_2 = some out → ∀ (H : Heap) (locs : List Loc) (ls : Array Slot), RS G K (ov I [(1105, o, x1_2.1), (1106, o, x1_2.2.1), (1107, o, x1_2.2.2.1), (1108, o, x1_2.2.2.2.1), (1109, o, x1_2.2.2.2.2.1), (1110, o, i_fault), (1111, o, i_at)]) (ov J [(1112, o, x1_2.2.2.2.2.2.1)]) X (ova A [((o + 1), a_tape), ((o + 2), a_now), ((o + 4), x1_2.2.2.2.2.2.2)]) B Q H → va_S (gA G) s.heap H locs → lv_has ls 6 [(0, .ref o)] → W p l e ({ frames := 3, cells := 0, slots := 0, locals := 67 } : Room) s m args below meth c H locs 0 0 Z (F0 m 53 ls []) := by
    intro x1_2 hf H locs ls hR hS hl
    unfold f14_readMen_e1_2 at hf
    refine lv_aload_n hx hb dX14_readMen_53 rfl (lv_at hl 0 rfl) ?_
    refine lv_iconst (v := 3) hx hb dX14_readMen_54 li_3 ?_
    obtain ⟨rr6, hrr6, hf⟩ := bind_s hf
    refine g0_cV (rm := (0, 0)) (As := [.int (3 : Int32)]) (rest := []) ⟨hx, hb, hml, hown, hts⟩ hG hR hS (m14_bad l G K (ov I [(1105, o, x1_2.1), (1106, o, x1_2.2.1), (1107, o, x1_2.2.2.1), (1108, o, x1_2.2.2.2.1), (1109, o, x1_2.2.2.2.2.1), (1110, o, i_fault), (1111, o, i_at)]) (ov J [(1112, o, x1_2.2.2.2.2.2.1)]) X (ova A [((o + 1), a_tape), ((o + 2), a_now), ((o + 4), x1_2.2.2.2.2.2.2)]) B Q o shM (3 : Int32) x1_2.2.1 x1_2.2.2.1 i_fault i_at (ov_get 1 rfl rfl) (ov_get 2 rfl rfl) (ov_get 5 rfl rfl) (ov_get 6 rfl rfl) rr6 hrr6) (cwV 1 hts gi_X14_216 rfl rfl rfl hd_X14_bad ⟨Nat.le_of_ble_eq_true rfl, Nat.le_of_ble_eq_true rfl⟩) shM.1 rfl rfl hl.1 (Nat.le_of_ble_eq_true rfl) dX14_readMen_55 ⟨Nat.le_refl _, Nat.le_refl _⟩ rfl (fun H locs hR hS => ?_)
    have hR : RS G K (ov I [(1105, o, x1_2.1), (1106, o, x1_2.2.1), (1107, o, x1_2.2.2.1), (1108, o, x1_2.2.2.2.1), (1109, o, x1_2.2.2.2.2.1), (1110, o, rr6.2.1), (1111, o, rr6.2.2)]) (ov J [(1112, o, x1_2.2.2.2.2.2.1)]) X (ova A [((o + 1), a_tape), ((o + 2), a_now), ((o + 4), x1_2.2.2.2.2.2.2)]) B Q H := hR.to (ov_merge (l := [(1105, o, x1_2.1), (1106, o, x1_2.2.1), (1107, o, x1_2.2.2.1), (1108, o, x1_2.2.2.2.1), (1109, o, x1_2.2.2.2.2.1), (1110, o, i_fault), (1111, o, i_at)]) rfl [5, 6] [(1110, o, rr6.2.1), (1111, o, rr6.2.2)] rfl rfl) rfl rfl rfl rfl rfl
    obtain ⟨hz9, hf⟩ := gd_some hf
    obtain rfl := some_i hf
    exact hend _ _ _ _ dX14_readMen_58 (congrArg Value.int hz9) hR hS
  refine whl_walk (P := fun (s1 : Int32 × Int32 × Int32 × Int32 × Int32 × Int32 × Int32 × Int64 × (Nat → Int32)) => ∀ (H : Heap) (locs : List Loc) (ls : Array Slot), RS G K (ov I [(1105, o, s1.2.2.1), (1106, o, s1.2.2.2.1), (1107, o, s1.2.2.2.2.1), (1108, o, s1.2.2.2.2.2.1), (1109, o, s1.2.2.2.2.2.2.1), (1110, o, i_fault), (1111, o, i_at)]) (ov J [(1112, o, s1.2.2.2.2.2.2.2.1)]) X (ova A [((o + 1), a_tape), ((o + 2), a_now), ((o + 4), s1.2.2.2.2.2.2.2.2)]) B Q H → va_S (gA G) s.heap H locs → lv_has ls 6 [(0, .ref o), (1, .int p1), (2, .int p2), (3, .int s1.1), (4, .int s1.2.1)] → W p l e ({ frames := 3, cells := 0, slots := 0, locals := 67 } : Room) s m args below meth c H locs 0 0 Z (F0 m 5 ls [])) (r := rl1) ?_ FU _ hw1 _ _ _ hR hS (lv_sub hl [2, 3, 4, 1, 0] rfl)
  clear hR hS hl hf
  intro s1 o1 hf hk1 H locs ls hR hS hl
  obtain ⟨w1_3, w1_4, w1_i_to, w1_i_from, w1_i_kind, w1_i_number, w1_i_sign, w1_j_word, w1_a_plan⟩ := s1
  have hf : f14_readMen_s1 p1 p2 i_size i_limit a_tape a_now b_name w1_3 w1_4 w1_i_to w1_i_from w1_i_kind w1_i_number w1_i_sign w1_j_word w1_a_plan = some o1 := hf
  have hR : RS G K (ov I [(1105, o, w1_i_to), (1106, o, w1_i_from), (1107, o, w1_i_kind), (1108, o, w1_i_number), (1109, o, w1_i_sign), (1110, o, i_fault), (1111, o, i_at)]) (ov J [(1112, o, w1_j_word)]) X (ova A [((o + 1), a_tape), ((o + 2), a_now), ((o + 4), w1_a_plan)]) B Q H := hR
  have hl : lv_has ls 6 [(0, .ref o), (1, .int p1), (2, .int p2), (3, .int w1_3), (4, .int w1_4)] := hl
  unfold f14_readMen_s1 at hf
  refine lv_iload hx hb dX14_readMen_5 (lv_at hl 4 rfl) ?_
  refine lv_iload_n hx hb dX14_readMen_7 rfl (lv_at hl 2 rfl) ?_
  have hj19 : ∀ (_ : Unit), f14_readMen_j19 p1 i_size i_limit a_tape a_now b_name w1_3 w1_4 w1_i_to w1_i_from w1_i_kind w1_i_number w1_i_sign w1_j_word w1_a_plan = some o1 → ∀ (H : Heap) (locs : List Loc) (ls : Array Slot), RS G K (ov I [(1105, o, w1_i_to), (1106, o, w1_i_from), (1107, o, w1_i_kind), (1108, o, w1_i_number), (1109, o, w1_i_sign), (1110, o, i_fault), (1111, o, i_at)]) (ov J [(1112, o, w1_j_word)]) X (ova A [((o + 1), a_tape), ((o + 2), a_now), ((o + 4), w1_a_plan)]) B Q H → va_S (gA G) s.heap H locs → lv_has ls 6 [(0, .ref o), (1, .int p1), (2, .int p2), (3, .int w1_3), (4, .int w1_4)] → W p l e ({ frames := 3, cells := 0, slots := 0, locals := 67 } : Room) s m args below meth c H locs 0 0 Z (F0 m 19 ls []) := by
    intro _ hf H locs ls hR hS hl
    unfold f14_readMen_j19 at hf
    refine lv_aload_n hx hb dX14_readMen_19 rfl (lv_at hl 0 rfl) ?_
    obtain ⟨rr7, hrr7, hf⟩ := bind_s hf
    refine g0_cV (rm := (2, 46)) (As := []) (rest := []) ⟨hx, hb, hml, hown, hts⟩ hG hR hS (m14_isName l G K (ov I [(1105, o, w1_i_to), (1106, o, w1_i_from), (1107, o, w1_i_kind), (1108, o, w1_i_number), (1109, o, w1_i_sign), (1110, o, i_fault), (1111, o, i_at)]) (ov J [(1112, o, w1_j_word)]) X (ova A [((o + 1), a_tape), ((o + 2), a_now), ((o + 4), w1_a_plan)]) B Q o shM w1_i_kind w1_j_word (ov_get 2 rfl rfl) (ov_get 0 rfl rfl) rr7 hrr7) (cwV 0 hts gi_X14_247 rfl rfl rfl hd_X14_isName ⟨Nat.le_of_ble_eq_true rfl, Nat.le_of_ble_eq_true rfl⟩) shM.1 rfl rfl hl.1 (Nat.le_of_ble_eq_true rfl) dX14_readMen_20 ⟨Nat.le_refl _, Nat.le_refl _⟩ rfl (fun H locs hR hS => ?_)
    refine lv_if_ne (tgt := 32) hx hb dX14_readMen_23 (by decide) (fun c8 => ?_) (fun c8 => ?_)
    · have hf := ite_f c8 hf
      refine lv_aload_n hx hb dX14_readMen_32 rfl (lv_at hl 0 rfl) ?_
      obtain ⟨rr9, hrr9, hf⟩ := bind_s hf
      refine g0_cV (rm := (1, 20)) (As := []) (rest := []) ⟨hx, hb, hml, hown, hts⟩ hG hR hS (m14_manAtHand l G K (ov I [(1105, o, w1_i_to), (1106, o, w1_i_from), (1107, o, w1_i_kind), (1108, o, w1_i_number), (1109, o, w1_i_sign), (1110, o, i_fault), (1111, o, i_at)]) (ov J [(1112, o, w1_j_word)]) X (ova A [((o + 1), a_tape), ((o + 2), a_now), ((o + 4), w1_a_plan)]) B Q o shM w1_j_word a_now b_name (ov_get 0 rfl rfl) (ova_get 1 hN_A rfl) e_b_name rr9 hrr9) (cwV 0 hts gi_X14_488 rfl rfl rfl hd_X14_manAtHand ⟨Nat.le_of_ble_eq_true rfl, Nat.le_of_ble_eq_true rfl⟩) shM.1 rfl rfl hl.1 (Nat.le_of_ble_eq_true rfl) dX14_readMen_33 ⟨Nat.le_refl _, Nat.le_refl _⟩ rfl (fun H locs hR hS => ?_)
      refine lv_istore (lv' := [(5, .int rr9), (0, .ref o), (1, .int p1), (2, .int p2), (3, .int w1_3), (4, .int w1_4)]) hx hb dX14_readMen_36 hl (by decide) rfl (fun ls hl => ?_)
      refine lv_iload hx hb dX14_readMen_38 (lv_at hl 0 rfl) ?_
      refine lv_iconst (v := -1) hx hb dX14_readMen_40 li_m1 ?_
      refine lv_icmp_eq (tgt := 53) hx hb dX14_readMen_41 (by decide) (fun c10 => ?_) (fun c10 => ?_)
      · have hf := ite_t c10 hf
        obtain rfl := some_i hf
        replace hk1 : _ = rl1 := hk1
        subst hk1
        exact hx1_2 (w1_i_to, w1_i_from, w1_i_kind, w1_i_number, w1_i_sign, w1_j_word, w1_a_plan) (el_r (el_r hfo1)) _ _ _ hR hS (lv_sub hl [1] rfl)
      · have hf := ite_f c10 hf
        refine lv_iload_n hx hb dX14_readMen_44 rfl (lv_at hl 4 rfl) ?_
        refine lv_iload hx hb dX14_readMen_45 (lv_at hl 0 rfl) ?_
        obtain ⟨rr11, hrr11, hf⟩ := bind_s hf
        refine g0_cS (rm := (0, 0)) (As := [.int w1_3, .int rr9]) (rest := []) ⟨hx, hb, hml, hown, hts⟩ hG hR hS (m14_has l G K (ov I [(1105, o, w1_i_to), (1106, o, w1_i_from), (1107, o, w1_i_kind), (1108, o, w1_i_number), (1109, o, w1_i_sign), (1110, o, i_fault), (1111, o, i_at)]) (ov J [(1112, o, w1_j_word)]) X (ova A [((o + 1), a_tape), ((o + 2), a_now), ((o + 4), w1_a_plan)]) B Q w1_3 rr9 rr11 hrr11) (cwS 2 hts gi_X14_258 rfl rfl rfl hd_X14_has ⟨Nat.le_of_ble_eq_true rfl, Nat.le_of_ble_eq_true rfl⟩) rfl hl.1 (Nat.le_of_ble_eq_true rfl) dX14_readMen_47 ⟨Nat.le_refl _, Nat.le_refl _⟩ rfl (fun H locs hR hS => ?_)
        refine lv_if_eq (tgt := 59) hx hb dX14_readMen_50 (by decide) (fun c12 => ?_) (fun c12 => ?_)
        · have hf := ite_t c12 hf
          refine lv_iload_n hx hb dX14_readMen_59 rfl (lv_at hl 4 rfl) ?_
          refine lv_iconst (v := 1) hx hb dX14_readMen_60 li_1 ?_
          refine lv_iload hx hb dX14_readMen_61 (lv_at hl 0 rfl) ?_
          obtain ⟨v13, ev13, hf⟩ := lt_some hf
          refine n_ishl hx hb ev13 dX14_readMen_63 ?_
          obtain ⟨v14, ev14, hf⟩ := lt_some hf
          refine n_ior hx hb ev14 dX14_readMen_64 ?_
          refine lv_istore_n (lv' := [(3, .int v14), (5, .int rr9), (0, .ref o), (1, .int p1), (2, .int p2), (4, .int w1_4)]) hx hb dX14_readMen_65 rfl hl (by decide) rfl (fun ls hl => ?_)
          refine lv_aload_n hx hb dX14_readMen_66 rfl (lv_at hl 2 rfl) ?_
          refine g_getr (b := (o + 4)) hx hb hts hown hG hR gFx_X14_19_11 shM.1 ((shM.2 3 _ rfl).2) dX14_readMen_67 ?_
          refine lv_iload_n hx hb dX14_readMen_70 rfl (lv_at hl 3 rfl) ?_
          refine lv_iconst (v := 3) hx hb dX14_readMen_71 li_3 ?_
          obtain ⟨v15, ev15, hf⟩ := lt_some hf
          refine n_iadd hx hb ev15 dX14_readMen_72 ?_
          refine lv_iload hx hb dX14_readMen_73 (lv_at hl 5 rfl) ?_
          obtain ⟨v16, ev16, hf⟩ := lt_some hf
          refine n_iadd hx hb ev16 dX14_readMen_75 ?_
          refine lv_iload hx hb dX14_readMen_76 (lv_at hl 1 rfl) ?_
          obtain ⟨c17, hf⟩ := gd_some hf
          obtain ⟨u18, eu18, hf⟩ := lt_some hf
          refine n_iast (la' := [((o + 1), a_tape), ((o + 2), a_now), ((o + 4), u18)]) hx hb hG hR hS k_a_plan c17 hN_A 2 rfl eu18 rfl dX14_readMen_78 (fun H locs hR hS => ?_)
          obtain ⟨v19, ev19, hf⟩ := lt_some hf
          refine lv_iinc (k := 5) (v := v19) (lv' := [(4, .int v19), (3, .int v14), (5, .int rr9), (0, .ref o), (1, .int p1), (2, .int p2)]) hx hb dX14_readMen_79 hl rfl (by rw [ev19]; rfl) (by decide) rfl (fun ls hl => ?_)
          refine lv_aload_n hx hb dX14_readMen_82 rfl (lv_at hl 3 rfl) ?_
          obtain ⟨rr20, hrr20, hf⟩ := bind_s hf
          refine g0_cVv (rm := (1, 21)) (As := []) (rest := []) ⟨hx, hb, hml, hown, hts⟩ hG hR hS (m14_go l G K (ov I [(1105, o, w1_i_to), (1106, o, w1_i_from), (1107, o, w1_i_kind), (1108, o, w1_i_number), (1109, o, w1_i_sign), (1110, o, i_fault), (1111, o, i_at)]) (ov J [(1112, o, w1_j_word)]) X (ova A [((o + 1), a_tape), ((o + 2), a_now), ((o + 4), u18)]) B Q o shM i_size i_limit w1_i_to w1_i_from w1_i_kind w1_i_number w1_i_sign w1_j_word a_tape ((congrFun (ov_no rfl) _).trans e_i_size) ((congrFun (ov_no rfl) _).trans e_i_limit) (ov_get 0 rfl rfl) (ov_get 1 rfl rfl) (ov_get 2 rfl rfl) (ov_get 3 rfl rfl) (ov_get 4 rfl rfl) (ov_get 0 rfl rfl) (ova_get 0 hN_A rfl) rr20 hrr20) (cwV 0 hts gi_X14_226 rfl rfl rfl hd_X14_go ⟨Nat.le_of_ble_eq_true rfl, Nat.le_of_ble_eq_true rfl⟩) shM.1 rfl rfl hl.1 (Nat.le_of_ble_eq_true rfl) dX14_readMen_83 ⟨Nat.le_refl _, Nat.le_refl _⟩ rfl (fun H locs hR hS => ?_)
          have hR : RS G K (ov I [(1105, o, rr20.1), (1106, o, rr20.2.1), (1107, o, rr20.2.2.1), (1108, o, rr20.2.2.2.1), (1109, o, rr20.2.2.2.2.1), (1110, o, i_fault), (1111, o, i_at)]) (ov J [(1112, o, rr20.2.2.2.2.2)]) X (ova A [((o + 1), a_tape), ((o + 2), a_now), ((o + 4), u18)]) B Q H := hR.to (ov_merge (l := [(1105, o, w1_i_to), (1106, o, w1_i_from), (1107, o, w1_i_kind), (1108, o, w1_i_number), (1109, o, w1_i_sign), (1110, o, i_fault), (1111, o, i_at)]) rfl [0, 1, 2, 3, 4] [(1105, o, rr20.1), (1106, o, rr20.2.1), (1107, o, rr20.2.2.1), (1108, o, rr20.2.2.2.1), (1109, o, rr20.2.2.2.2.1)] rfl rfl) (ov_merge (l := [(1112, o, w1_j_word)]) rfl [0] [(1112, o, rr20.2.2.2.2.2)] rfl rfl) rfl rfl rfl rfl
          refine lv_goto (tgt := 5) hx hb dX14_readMen_86 (by decide) ?_
          obtain rfl := some_i hf
          exact hk1 _ _ _ hR hS (lv_sub hl [3, 4, 5, 1, 0] rfl)
        · have hf := ite_f c12 hf
          obtain rfl := some_i hf
          replace hk1 : _ = rl1 := hk1
          subst hk1
          exact hx1_2 (w1_i_to, w1_i_from, w1_i_kind, w1_i_number, w1_i_sign, w1_j_word, w1_a_plan) (el_r (el_r hfo1)) _ _ _ hR hS (lv_sub hl [1] rfl)
    · have hf := ite_t c8 hf
      obtain rfl := some_i hf
      replace hk1 : _ = rl1 := hk1
      subst hk1
      exact hx1_1 (w1_i_to, w1_i_from, w1_i_kind, w1_i_number, w1_i_sign, w1_j_word, w1_a_plan) (el_l (el_r hfo1)) _ _ _ hR hS (lv_sub hl [0] rfl)
  refine lv_icmp_lt (tgt := 19) hx hb dX14_readMen_8 (by decide) (fun c21 => ?_) (fun c21 => ?_)
  · have hf := ite_t c21 hf
    exact hj19 () hf _ _ _ hR hS (lv_sub hl [0, 1, 2, 3, 4] rfl)
  · have hf := ite_f c21 hf
    refine lv_aload_n hx hb dX14_readMen_11 rfl (lv_at hl 0 rfl) ?_
    refine n_geti (v := w1_i_kind) hx hb hts hown hG hR gFi_X14_170_11 shM.1 (ov_get 2 rfl rfl) dX14_readMen_12 ?_
    refine lv_iconst (v := 2) hx hb dX14_readMen_15 li_2 ?_
    refine lv_icmp_ne (tgt := 89) hx hb dX14_readMen_16 (by decide) (fun c22 => ?_) (fun c22 => ?_)
    · have hf := ite_f c22 hf
      obtain rfl := some_i hf
      replace hk1 : _ = rl1 := hk1
      subst hk1
      exact hx1_0 (w1_4, w1_i_to, w1_i_from, w1_i_kind, w1_i_number, w1_i_sign, w1_j_word, w1_a_plan) (el_l hfo1) _ _ _ hR hS (lv_sub hl [0, 1, 4] rfl)
    · have hf := ite_t c22 hf
      exact hj19 () hf _ _ _ hR hS (lv_sub hl [0, 1, 2, 3, 4] rfl)
