/-! the walks of PailRowModel (printed by tools) 0 -/
set_option maxRecDepth 100000
noncomputable def f14_thrown (i_thrown : Int32) : Option (Int32) :=
  some i_thrown
set_option maxHeartbeats 4000000 in
theorem m14_thrown (l : Launch) (G : gG) (K : gK) (I : gI) (J : gJ) (X : gX) (A : gI) (B : gJ) (Q : gX) (o : Nat) (shM : Sh K X o 11 rows11)  (i_thrown : Int32) (e_i_thrown : I 1100 o = i_thrown) (out : Int32) (hf : f14_thrown i_thrown = some out) : GMet l yX14_thrown cX14_thrown 1 (some .int) (0) (0) G [.ref o] K I J X A B Q (some (.int out)) K I J X A B Q 0 0 := by
  refine GMet.of (y := yX14_thrown) rfl (Nat.le_of_ble_eq_true rfl) rfl ?_
  intro p e s m below meth c ls hx hb hr hml hlocks hts hown hname hG hR hl
  have hown : s.vm.findClass RX14 = some m.cls := hown
  have hR : RS G K I J X A B Q s.heap := hR.to rfl rfl rfl rfl rfl rfl
  have hS : va_S (gA G) s.heap s.heap [] := va_S.rf
  have hend : ∀ (pc : Nat) (H : Heap) (locs : List Loc) (ls : Array Slot), decode cX14_thrown pc = .ok (.ireturn, 1) → RS G K I J X A B Q H → va_S (gA G) s.heap H locs → W p l e ({ frames := 0, cells := 0, slots := 0, locals := 0 } : Room) s m ([.ref o] : List Value).toArray below meth c H locs 0 0 (MQ below (gQ G (some (.int out)) K I J X A B Q) ([.ref o] : List Value).toArray s 0 0 (gA G)) (F0 m pc ls [.int out]) := fun pc H locs ls hd hR hS => g_iret hx hb hr hlocks hG hR hS rfl hd
  generalize MQ below (gQ G (some (.int out)) K I J X A B Q) ([.ref o] : List Value).toArray s 0 0 (gA G) = Z at hend ⊢
  generalize ([.ref o] : List Value).toArray = args at hts hend ⊢
  unfold f14_thrown at hf
  refine lv_aload_n hx hb dX14_thrown_0 rfl (lv_at hl 0 rfl) ?_
  refine n_geti (v := i_thrown) hx hb hts hown hG hR gFi_X14_148_11 shM.1 e_i_thrown dX14_thrown_1 ?_
  obtain rfl := some_i hf
  exact hend _ _ _ _ dX14_thrown_4 hR hS
noncomputable def f14_come_e1_0 (x1_0 : Int32 × (Nat → Int32)) : Option (Int32 × (Nat → Int32)) :=
  some x1_0

noncomputable def f14_come_s1 (p1 : Int32) (w1_2 : Int32) (w1_i_taped : Int32) (w1_a_tape : Nat → Int32) : Option ((Int32 × Int32 × (Nat → Int32)) ⊕ (Int32 × (Nat → Int32))) :=
  if w1_2 < 0 then
    some (.inr (w1_i_taped, w1_a_tape))
  else
    lt ((p1.toUInt32 >>> (w1_2.toUInt32 &&& Int32.toUInt32 31)).toInt32) fun v3 =>
    lt (v3 &&& (255 : Int32)) fun v4 =>
    gd (inb w1_i_taped 740) <|
    lt (upd w1_a_tape w1_i_taped.toNatClampNeg v4) fun u6 =>
    lt (w1_i_taped + (1 : Int32)) fun v7 =>
    lt (w1_2 + (-8 : Int32)) fun v8 =>
    some (.inl (v8, v7, u6))

noncomputable def f14_come (p1 : Int32) (i_taped : Int32) (a_tape : Nat → Int32) : Option (Int32 × (Nat → Int32)) :=
  (whl (fun (s1 : Int32 × Int32 × (Nat → Int32)) => f14_come_s1 p1 s1.1 s1.2.1 s1.2.2) FU ((24 : Int32), i_taped, a_tape)).bind fun rl1 =>
  f14_come_e1_0 rl1
set_option maxHeartbeats 4000000 in
theorem m14_come (l : Launch) (G : gG) (K : gK) (I : gI) (J : gJ) (X : gX) (A : gI) (B : gJ) (Q : gX) (o : Nat) (shM : Sh K X o 11 rows11) (p1 : Int32) (i_taped : Int32) (a_tape : Nat → Int32) (e_i_taped : I 1102 o = i_taped) (e_a_tape : A (o + 1) = a_tape) (out : Int32 × (Nat → Int32)) (hf : f14_come p1 i_taped a_tape = some out) : GMet l yX14_come cX14_come 3 none (0) (0) G [.ref o, .int p1] K I J X A B Q none K (ov I [(1102, o, out.1)]) J X (ova A [((o + 1), out.2)]) B Q 0 0 := by
  refine GMet.of (y := yX14_come) rfl (Nat.le_of_ble_eq_true rfl) rfl ?_
  intro p e s m below meth c ls hx hb hr hml hlocks hts hown hname hG hR hl
  have hown : s.vm.findClass RX14 = some m.cls := hown
  have k_a_tape : K (o + 1) = some (.inr (0, 740)) := (shM.2 0 _ rfl).1
  have hN_A : nda [(o + 1)] := nd_off o [1] rfl
  have hR : RS G K (ov I [(1102, o, i_taped)]) J X (ova A [((o + 1), a_tape)]) B Q s.heap := hR.to (Eq.symm (ov_sc e_i_taped rfl)) rfl rfl (Eq.symm (ova_sc e_a_tape rfl)) rfl rfl
  have hS : va_S (gA G) s.heap s.heap [] := va_S.rf
  have hend : ∀ (pc : Nat) (H : Heap) (locs : List Loc) (ls : Array Slot), decode cX14_come pc = .ok (.return_, 1) → RS G K (ov I [(1102, o, out.1)]) J X (ova A [((o + 1), out.2)]) B Q H → va_S (gA G) s.heap H locs → W p l e ({ frames := 0, cells := 0, slots := 0, locals := 0 } : Room) s m ([.ref o, .int p1] : List Value).toArray below meth c H locs 0 0 (MQ below (gQ G none K (ov I [(1102, o, out.1)]) J X (ova A [((o + 1), out.2)]) B Q) ([.ref o, .int p1] : List Value).toArray s 0 0 (gA G)) (F0 m pc ls []) := fun pc H locs ls hd hR hS => g_vret hx hb hr hlocks hG hR hS rfl hd
  generalize MQ below (gQ G none K (ov I [(1102, o, out.1)]) J X (ova A [((o + 1), out.2)]) B Q) ([.ref o, .int p1] : List Value).toArray s 0 0 (gA G) = Z at hend ⊢
  generalize ([.ref o, .int p1] : List Value).toArray = args at hts hend ⊢
  unfold f14_come at hf
  refine lv_bipush (v := 24) hx hb dX14_come_0 lb_24 ?_
  refine lv_istore_n (lv' := [(2, .int (24 : Int32)), (0, .ref o), (1, .int p1)]) hx hb dX14_come_2 rfl hl (by decide) rfl (fun ls hl => ?_)
  obtain ⟨rl1, hw1, hfo1⟩ := bind_s hf
  have hx1_0 : ∀ (x1_0 : Int32 × (Nat → Int32)), f14_come_e1_0 x1_0 = some out → ∀ (pc : Nat) (H : Heap) (locs : List Loc) (ls : Array Slot), decode cX14_come pc = .ok (.return_, 1) → RS G K (ov I [(1102, o, x1_0.1)]) J X (ova A [((o + 1), x1_0.2)]) B Q H → va_S (gA G) s.heap H locs → W p l e ({ frames := 0, cells := 0, slots := 0, locals := 0 } : Room) s m args below meth c H locs 0 0 Z (F0 m pc ls []) := by
    intro x1_0 hf pc H locs ls hd hR hS
    unfold f14_come_e1_0 at hf
    obtain rfl := some_i hf
    exact hend _ _ _ _ hd hR hS
  refine whl_walk (P := fun (s1 : Int32 × Int32 × (Nat → Int32)) => ∀ (H : Heap) (locs : List Loc) (ls : Array Slot), RS G K (ov I [(1102, o, s1.2.1)]) J X (ova A [((o + 1), s1.2.2)]) B Q H → va_S (gA G) s.heap H locs → lv_has ls 3 [(0, .ref o), (1, .int p1), (2, .int s1.1)] → W p l e ({ frames := 0, cells := 0, slots := 0, locals := 0 } : Room) s m args below meth c H locs 0 0 Z (F0 m 3 ls [])) (r := rl1) ?_ FU _ hw1 _ _ _ hR hS (lv_sub hl [1, 2, 0] rfl)
  clear hR hS hl hf
  intro s1 o1 hf hk1 H locs ls hR hS hl
  obtain ⟨w1_2, w1_i_taped, w1_a_tape⟩ := s1
  have hf : f14_come_s1 p1 w1_2 w1_i_taped w1_a_tape = some o1 := hf
  have hR : RS G K (ov I [(1102, o, w1_i_taped)]) J X (ova A [((o + 1), w1_a_tape)]) B Q H := hR
  have hl : lv_has ls 3 [(0, .ref o), (1, .int p1), (2, .int w1_2)] := hl
  unfold f14_come_s1 at hf
  refine lv_iload_n hx hb dX14_come_3 rfl (lv_at hl 2 rfl) ?_
  refine lv_if_lt (tgt := 39) hx hb dX14_come_4 (by decide) (fun c2 => ?_) (fun c2 => ?_)
  · have hf := ite_t c2 hf
    obtain rfl := some_i hf
    replace hk1 : _ = rl1 := hk1
    subst hk1
    exact hx1_0 (w1_i_taped, w1_a_tape) hfo1 _ _ _ _ dX14_come_39 hR hS
  · have hf := ite_f c2 hf
    refine lv_aload_n hx hb dX14_come_7 rfl (lv_at hl 0 rfl) ?_
    refine g_getr (b := (o + 1)) hx hb hts hown hG hR gFx_X14_7_11 shM.1 ((shM.2 0 _ rfl).2) dX14_come_8 ?_
    refine lv_aload_n hx hb dX14_come_11 rfl (lv_at hl 0 rfl) ?_
    refine n_geti (v := w1_i_taped) hx hb hts hown hG hR gFi_X14_151_11 shM.1 (ov_get 0 rfl rfl) dX14_come_12 ?_
    refine lv_iload_n hx hb dX14_come_15 rfl (lv_at hl 1 rfl) ?_
    refine lv_iload_n hx hb dX14_come_16 rfl (lv_at hl 2 rfl) ?_
    obtain ⟨v3, ev3, hf⟩ := lt_some hf
    refine n_iushr hx hb ev3 dX14_come_17 ?_
    refine lv_sipush (v := 255) hx hb dX14_come_18 ls_255 ?_
    obtain ⟨v4, ev4, hf⟩ := lt_some hf
    refine n_iand hx hb ev4 dX14_come_21 ?_
    obtain ⟨c5, hf⟩ := gd_some hf
    obtain ⟨u6, eu6, hf⟩ := lt_some hf
    refine n_iast (la' := [((o + 1), u6)]) hx hb hG hR hS k_a_tape c5 hN_A 0 rfl eu6 rfl dX14_come_22 (fun H locs hR hS => ?_)
    refine lv_aload_n hx hb dX14_come_23 rfl (lv_at hl 0 rfl) ?_
    refine lv_dup hx hb dX14_come_24 rfl ?_
    refine n_geti (v := w1_i_taped) hx hb hts hown hG hR gFi_X14_151_11 shM.1 (ov_get 0 rfl rfl) dX14_come_25 ?_
    refine lv_iconst (v := 1) hx hb dX14_come_28 li_1 ?_
    obtain ⟨v7, ev7, hf⟩ := lt_some hf
    refine n_iadd hx hb ev7 dX14_come_29 ?_
    refine n_puti (li' := [(1102, o, v7)]) hx hb hts hown hG hR hS gPi_X14_151_11 shM.1 0 rfl rfl rfl dX14_come_30 (fun H locs hR hS => ?_)
    obtain ⟨v8, ev8, hf⟩ := lt_some hf
    refine lv_iinc (k := 2) (v := v8) (lv' := [(2, .int v8), (0, .ref o), (1, .int p1)]) hx hb dX14_come_33 hl rfl (by rw [ev8]; rfl) (by decide) rfl (fun ls hl => ?_)
    refine lv_goto (tgt := 3) hx hb dX14_come_36 (by decide) ?_
    obtain rfl := some_i hf
    exact hk1 _ _ _ hR hS (lv_sub hl [1, 2, 0] rfl)
noncomputable def f14_end (p1 : Int32) (i_thrown : Int32) (i_taped : Int32) : Option (Int32 × Int32 × Int32) :=
  if p1 < 0 then
    some ((0 : Int32), (0 : Int32), i_taped)
  else
    if p1 ≤ i_taped then
      some ((1 : Int32), (0 : Int32), p1)
    else
      some ((0 : Int32), (0 : Int32), i_taped)
set_option maxHeartbeats 4000000 in
theorem m14_end (l : Launch) (G : gG) (K : gK) (I : gI) (J : gJ) (X : gX) (A : gI) (B : gJ) (Q : gX) (o : Nat) (shM : Sh K X o 11 rows11) (p1 : Int32) (i_thrown : Int32) (i_taped : Int32) (e_i_thrown : I 1100 o = i_thrown) (e_i_taped : I 1102 o = i_taped) (out : Int32 × Int32 × Int32) (hf : f14_end p1 i_thrown i_taped = some out) : GMet l yX14_end cX14_end 2 (some .boolean) (0) (0) G [.ref o, .int p1] K I J X A B Q (some (.int out.1)) K (ov I [(1100, o, out.2.1), (1102, o, out.2.2)]) J X A B Q 0 0 := by
  refine GMet.of (y := yX14_end) rfl (Nat.le_of_ble_eq_true rfl) rfl ?_
  intro p e s m below meth c ls hx hb hr hml hlocks hts hown hname hG hR hl
  have hown : s.vm.findClass RX14 = some m.cls := hown
  have hR : RS G K (ov I [(1100, o, i_thrown), (1102, o, i_taped)]) J X A B Q s.heap := hR.to (Eq.symm (ov_sc e_i_thrown (ov_sc e_i_taped rfl))) rfl rfl rfl rfl rfl
  have hS : va_S (gA G) s.heap s.heap [] := va_S.rf
  have hend : ∀ (pc : Nat) (H : Heap) (locs : List Loc) (ls : Array Slot), decode cX14_end pc = .ok (.ireturn, 1) → narrow .boolean (.int out.1) = .int out.1 → RS G K (ov I [(1100, o, out.2.1), (1102, o, out.2.2)]) J X A B Q H → va_S (gA G) s.heap H locs → W p l e ({ frames := 0, cells := 0, slots := 0, locals := 0 } : Room) s m ([.ref o, .int p1] : List Value).toArray below meth c H locs 0 0 (MQ below (gQ G (some (.int out.1)) K (ov I [(1100, o, out.2.1), (1102, o, out.2.2)]) J X A B Q) ([.ref o, .int p1] : List Value).toArray s 0 0 (gA G)) (F0 m pc ls [.int out.1]) := fun pc H locs ls hd hz hR hS => g_zret hx hb hr hlocks hz hG hR hS rfl hd
  generalize MQ below (gQ G (some (.int out.1)) K (ov I [(1100, o, out.2.1), (1102, o, out.2.2)]) J X A B Q) ([.ref o, .int p1] : List Value).toArray s 0 0 (gA G) = Z at hend ⊢
  generalize ([.ref o, .int p1] : List Value).toArray = args at hts hend ⊢
  unfold f14_end at hf
  refine lv_aload_n hx hb dX14_end_0 rfl (lv_at hl 0 rfl) ?_
  refine lv_iconst (v := 0) hx hb dX14_end_1 li_0 ?_
  refine n_puti (li' := [(1100, o, (0 : Int32)), (1102, o, i_taped)]) hx hb hts hown hG hR hS gPi_X14_148_11 shM.1 0 rfl rfl rfl dX14_end_2 (fun H locs hR hS => ?_)
  refine lv_iload_n hx hb dX14_end_5 rfl (lv_at hl 1 rfl) ?_
  refine lv_if_lt (tgt := 17) hx hb dX14_end_6 (by decide) (fun c1 => ?_) (fun c1 => ?_)
  · have hf := ite_t c1 hf
    refine lv_iconst (v := 0) hx hb dX14_end_17 li_0 ?_
    obtain rfl := some_i hf
    exact hend _ _ _ _ dX14_end_18 nz_0 hR hS
  · have hf := ite_f c1 hf
    refine lv_iload_n hx hb dX14_end_9 rfl (lv_at hl 1 rfl) ?_
    refine lv_aload_n hx hb dX14_end_10 rfl (lv_at hl 0 rfl) ?_
    refine n_geti (v := i_taped) hx hb hts hown hG hR gFi_X14_151_11 shM.1 (ov_get 1 rfl rfl) dX14_end_11 ?_
    refine lv_icmp_le (tgt := 19) hx hb dX14_end_14 (by decide) (fun c2 => ?_) (fun c2 => ?_)
    · have hf := ite_t c2 hf
      refine lv_aload_n hx hb dX14_end_19 rfl (lv_at hl 0 rfl) ?_
      refine lv_iload_n hx hb dX14_end_20 rfl (lv_at hl 1 rfl) ?_
      refine n_puti (li' := [(1100, o, (0 : Int32)), (1102, o, p1)]) hx hb hts hown hG hR hS gPi_X14_151_11 shM.1 1 rfl rfl rfl dX14_end_21 (fun H locs hR hS => ?_)
      refine lv_iconst (v := 1) hx hb dX14_end_24 li_1 ?_
      obtain rfl := some_i hf
      exact hend _ _ _ _ dX14_end_25 nz_1 hR hS
    · have hf := ite_f c2 hf
      refine lv_iconst (v := 0) hx hb dX14_end_17 li_0 ?_
      obtain rfl := some_i hf
      exact hend _ _ _ _ dX14_end_18 nz_0 hR hS
noncomputable def f14_standard_e1_0 (n1 : Nat) (x1_0 : (Nat → Int32)) : Option ((Nat → Int32)) :=
  gd (inb (1 : Int32) n1) <|
  lt (upd x1_0 (1 : Int32).toNatClampNeg (30 : Int32)) fun u3 =>
  gd (inb (2 : Int32) n1) <|
  lt (upd u3 (2 : Int32).toNatClampNeg (6 : Int32)) fun u5 =>
  gd (inb (3 : Int32) n1) <|
  lt (upd u5 (3 : Int32).toNatClampNeg (8 : Int32)) fun u7 =>
  gd (inb (4 : Int32) n1) <|
  lt (upd u7 (4 : Int32).toNatClampNeg (5 : Int32)) fun u9 =>
  gd (inb (5 : Int32) n1) <|
  lt (upd u9 (5 : Int32).toNatClampNeg (9999 : Int32)) fun u11 =>
  gd (inb (7 : Int32) n1) <|
  lt (upd u11 (7 : Int32).toNatClampNeg (20 : Int32)) fun u13 =>
  gd (inb (8 : Int32) n1) <|
  lt (upd u13 (8 : Int32).toNatClampNeg (2 : Int32)) fun u15 =>
  gd (inb (11 : Int32) n1) <|
  lt (upd u15 (11 : Int32).toNatClampNeg (-1 : Int32)) fun u17 =>
  some u17

noncomputable def f14_standard_s1 (n1 : Nat) (w1_1 : Int32) (w1_x1 : Nat → Int32) : Option ((Int32 × (Nat → Int32)) ⊕ ((Nat → Int32))) :=
  if (200 : Int32) ≤ w1_1 then
    some (.inr w1_x1)
  else
    gd (inb w1_1 n1) <|
    lt (upd w1_x1 w1_1.toNatClampNeg (0 : Int32)) fun u20 =>
    lt (w1_1 + (1 : Int32)) fun v21 =>
    some (.inl (v21, u20))

noncomputable def f14_standard (n1 : Nat) (x1 : Nat → Int32) : Option ((Nat → Int32)) :=
  (whl (fun (s1 : Int32 × (Nat → Int32)) => f14_standard_s1 n1 s1.1 s1.2) FU ((0 : Int32), x1)).bind fun rl1 =>
  f14_standard_e1_0 n1 rl1
set_option maxHeartbeats 4000000 in
theorem m14_standard (l : Launch) (G : gG) (K : gK) (I : gI) (J : gJ) (X : gX) (A : gI) (B : gJ) (Q : gX) (r1 n1 : Nat) (k_x1 : K r1 = some (.inr (0, n1)))  (x1 : Nat → Int32) (e_x1 : A r1 = x1) (out : (Nat → Int32)) (hf : f14_standard n1 x1 = some out) : GMet l yX14_standard cX14_standard 2 none (0) (0) G [.ref r1] K I J X A B Q none K I J X (ova A [(r1, out)]) B Q 0 0 := by
  refine GMet.of (y := yX14_standard) rfl (Nat.le_of_ble_eq_true rfl) rfl ?_
  intro p e s m below meth c ls hx hb hr hml hlocks hts hown hname hG hR hl
  have hown : s.vm.findClass RX14 = some m.cls := hown
  have hN_A : nda [r1] := List.nodup_cons.mpr ⟨List.not_mem_nil, List.nodup_nil⟩
  have hR : RS G K I J X (ova A [(r1, x1)]) B Q s.heap := hR.to rfl rfl rfl (Eq.symm (ova_sc e_x1 rfl)) rfl rfl
  have hS : va_S (gA G) s.heap s.heap [] := va_S.rf
  have hend : ∀ (pc : Nat) (H : Heap) (locs : List Loc) (ls : Array Slot), decode cX14_standard pc = .ok (.return_, 1) → RS G K I J X (ova A [(r1, out)]) B Q H → va_S (gA G) s.heap H locs → W p l e ({ frames := 0, cells := 0, slots := 0, locals := 0 } : Room) s m ([.ref r1] : List Value).toArray below meth c H locs 0 0 (MQ below (gQ G none K I J X (ova A [(r1, out)]) B Q) ([.ref r1] : List Value).toArray s 0 0 (gA G)) (F0 m pc ls []) := fun pc H locs ls hd hR hS => g_vret hx hb hr hlocks hG hR hS rfl hd
  generalize MQ below (gQ G none K I J X (ova A [(r1, out)]) B Q) ([.ref r1] : List Value).toArray s 0 0 (gA G) = Z at hend ⊢
  generalize ([.ref r1] : List Value).toArray = args at hts hend ⊢
  unfold f14_standard at hf
  refine lv_iconst (v := 0) hx hb dX14_standard_0 li_0 ?_
  refine lv_istore_n (lv' := [(1, .int (0 : Int32)), (0, .ref r1)]) hx hb dX14_standard_1 rfl hl (by decide) rfl (fun ls hl => ?_)
  obtain ⟨rl1, hw1, hfo1⟩ := bind_s hf
  have hx1_0 : ∀ (x1_0 : (Nat → Int32)), f14_standard_e1_0 n1 x1_0 = some out → ∀ (H : Heap) (locs : List Loc) (ls : Array Slot), RS G K I J X (ova A [(r1, x1_0)]) B Q H → va_S (gA G) s.heap H locs → lv_has ls 2 [(0, .ref r1)] → W p l e ({ frames := 0, cells := 0, slots := 0, locals := 0 } : Room) s m args below meth c H locs 0 0 Z (F0 m 19 ls []) := by
    intro x1_0 hf H locs ls hR hS hl
    unfold f14_standard_e1_0 at hf
    refine lv_aload_n hx hb dX14_standard_19 rfl (lv_at hl 0 rfl) ?_
    refine lv_iconst (v := 1) hx hb dX14_standard_20 li_1 ?_
    refine lv_bipush (v := 30) hx hb dX14_standard_21 lb_30 ?_
    obtain ⟨c2, hf⟩ := gd_some hf
    obtain ⟨u3, eu3, hf⟩ := lt_some hf
    refine n_iast (la' := [(r1, u3)]) hx hb hG hR hS k_x1 c2 hN_A 0 rfl eu3 rfl dX14_standard_23 (fun H locs hR hS => ?_)
    refine lv_aload_n hx hb dX14_standard_24 rfl (lv_at hl 0 rfl) ?_
    refine lv_iconst (v := 2) hx hb dX14_standard_25 li_2 ?_
    refine lv_bipush (v := 6) hx hb dX14_standard_26 lb_6 ?_
    obtain ⟨c4, hf⟩ := gd_some hf
    obtain ⟨u5, eu5, hf⟩ := lt_some hf
    refine n_iast (la' := [(r1, u5)]) hx hb hG hR hS k_x1 c4 hN_A 0 rfl eu5 rfl dX14_standard_28 (fun H locs hR hS => ?_)
    refine lv_aload_n hx hb dX14_standard_29 rfl (lv_at hl 0 rfl) ?_
    refine lv_iconst (v := 3) hx hb dX14_standard_30 li_3 ?_
    refine lv_bipush (v := 8) hx hb dX14_standard_31 lb_8 ?_
    obtain ⟨c6, hf⟩ := gd_some hf
    obtain ⟨u7, eu7, hf⟩ := lt_some hf
    refine n_iast (la' := [(r1, u7)]) hx hb hG hR hS k_x1 c6 hN_A 0 rfl eu7 rfl dX14_standard_33 (fun H locs hR hS => ?_)
    refine lv_aload_n hx hb dX14_standard_34 rfl (lv_at hl 0 rfl) ?_
    refine lv_iconst (v := 4) hx hb dX14_standard_35 li_4 ?_
    refine lv_iconst (v := 5) hx hb dX14_standard_36 li_5 ?_
    obtain ⟨c8, hf⟩ := gd_some hf
    obtain ⟨u9, eu9, hf⟩ := lt_some hf
    refine n_iast (la' := [(r1, u9)]) hx hb hG hR hS k_x1 c8 hN_A 0 rfl eu9 rfl dX14_standard_37 (fun H locs hR hS => ?_)
    refine lv_aload_n hx hb dX14_standard_38 rfl (lv_at hl 0 rfl) ?_
    refine lv_iconst (v := 5) hx hb dX14_standard_39 li_5 ?_
    refine lv_sipush (v := 9999) hx hb dX14_standard_40 ls_9999 ?_
    obtain ⟨c10, hf⟩ := gd_some hf
    obtain ⟨u11, eu11, hf⟩ := lt_some hf
    refine n_iast (la' := [(r1, u11)]) hx hb hG hR hS k_x1 c10 hN_A 0 rfl eu11 rfl dX14_standard_43 (fun H locs hR hS => ?_)
    refine lv_aload_n hx hb dX14_standard_44 rfl (lv_at hl 0 rfl) ?_
    refine lv_bipush (v := 7) hx hb dX14_standard_45 lb_7 ?_
    refine lv_bipush (v := 20) hx hb dX14_standard_47 lb_20 ?_
    obtain ⟨c12, hf⟩ := gd_some hf
    obtain ⟨u13, eu13, hf⟩ := lt_some hf
    refine n_iast (la' := [(r1, u13)]) hx hb hG hR hS k_x1 c12 hN_A 0 rfl eu13 rfl dX14_standard_49 (fun H locs hR hS => ?_)
    refine lv_aload_n hx hb dX14_standard_50 rfl (lv_at hl 0 rfl) ?_
    refine lv_bipush (v := 8) hx hb dX14_standard_51 lb_8 ?_
    refine lv_iconst (v := 2) hx hb dX14_standard_53 li_2 ?_
    obtain ⟨c14, hf⟩ := gd_some hf
    obtain ⟨u15, eu15, hf⟩ := lt_some hf
    refine n_iast (la' := [(r1, u15)]) hx hb hG hR hS k_x1 c14 hN_A 0 rfl eu15 rfl dX14_standard_54 (fun H locs hR hS => ?_)
    refine lv_aload_n hx hb dX14_standard_55 rfl (lv_at hl 0 rfl) ?_
    refine lv_bipush (v := 11) hx hb dX14_standard_56 lb_11 ?_
    refine lv_iconst (v := -1) hx hb dX14_standard_58 li_m1 ?_
    obtain ⟨c16, hf⟩ := gd_some hf
    obtain ⟨u17, eu17, hf⟩ := lt_some hf
    refine n_iast (la' := [(r1, u17)]) hx hb hG hR hS k_x1 c16 hN_A 0 rfl eu17 rfl dX14_standard_59 (fun H locs hR hS => ?_)
    obtain rfl := some_i hf
    exact hend _ _ _ _ dX14_standard_60 hR hS
  refine whl_walk (P := fun (s1 : Int32 × (Nat → Int32)) => ∀ (H : Heap) (locs : List Loc) (ls : Array Slot), RS G K I J X (ova A [(r1, s1.2)]) B Q H → va_S (gA G) s.heap H locs → lv_has ls 2 [(0, .ref r1), (1, .int s1.1)] → W p l e ({ frames := 0, cells := 0, slots := 0, locals := 0 } : Room) s m args below meth c H locs 0 0 Z (F0 m 2 ls [])) (r := rl1) ?_ FU _ hw1 _ _ _ hR hS (lv_sub hl [1, 0] rfl)
  clear hR hS hl hf
  intro s1 o1 hf hk1 H locs ls hR hS hl
  obtain ⟨w1_1, w1_x1⟩ := s1
  have hf : f14_standard_s1 n1 w1_1 w1_x1 = some o1 := hf
  have hR : RS G K I J X (ova A [(r1, w1_x1)]) B Q H := hR
  have hl : lv_has ls 2 [(0, .ref r1), (1, .int w1_1)] := hl
  unfold f14_standard_s1 at hf
  refine lv_iload_n hx hb dX14_standard_2 rfl (lv_at hl 1 rfl) ?_
  refine lv_sipush (v := 200) hx hb dX14_standard_3 ls_200 ?_
  refine lv_icmp_ge (tgt := 19) hx hb dX14_standard_6 (by decide) (fun c18 => ?_) (fun c18 => ?_)
  · have hf := ite_t c18 hf
    obtain rfl := some_i hf
    replace hk1 : _ = rl1 := hk1
    subst hk1
    exact hx1_0 w1_x1 hfo1 _ _ _ hR hS (lv_sub hl [0] rfl)
  · have hf := ite_f c18 hf
    refine lv_aload_n hx hb dX14_standard_9 rfl (lv_at hl 0 rfl) ?_
    refine lv_iload_n hx hb dX14_standard_10 rfl (lv_at hl 1 rfl) ?_
    refine lv_iconst (v := 0) hx hb dX14_standard_11 li_0 ?_
    obtain ⟨c19, hf⟩ := gd_some hf
    obtain ⟨u20, eu20, hf⟩ := lt_some hf
    refine n_iast (la' := [(r1, u20)]) hx hb hG hR hS k_x1 c19 hN_A 0 rfl eu20 rfl dX14_standard_12 (fun H locs hR hS => ?_)
    obtain ⟨v21, ev21, hf⟩ := lt_some hf
    refine lv_iinc (k := 1) (v := v21) (lv' := [(1, .int v21), (0, .ref r1)]) hx hb dX14_standard_13 hl rfl (by rw [ev21]; rfl) (by decide) rfl (fun ls hl => ?_)
    refine lv_goto (tgt := 2) hx hb dX14_standard_16 (by decide) ?_
    obtain rfl := some_i hf
    exact hk1 _ _ _ hR hS (lv_sub hl [1, 0] rfl)
noncomputable def f14_take (i_taped : Int32) : Option (Int32 × Int32) :=
  some (i_taped, (0 : Int32))
set_option maxHeartbeats 4000000 in
theorem m14_take (l : Launch) (G : gG) (K : gK) (I : gI) (J : gJ) (X : gX) (A : gI) (B : gJ) (Q : gX) (o : Nat) (shM : Sh K X o 11 rows11)  (i_taped : Int32) (e_i_taped : I 1102 o = i_taped) (out : Int32 × Int32) (hf : f14_take i_taped = some out) : GMet l yX14_take cX14_take 2 (some .int) (0) (0) G [.ref o] K I J X A B Q (some (.int out.1)) K (ov I [(1102, o, out.2)]) J X A B Q 0 0 := by
  refine GMet.of (y := yX14_take) rfl (Nat.le_of_ble_eq_true rfl) rfl ?_
  intro p e s m below meth c ls hx hb hr hml hlocks hts hown hname hG hR hl
  have hown : s.vm.findClass RX14 = some m.cls := hown
  have hR : RS G K (ov I [(1102, o, i_taped)]) J X A B Q s.heap := hR.to (Eq.symm (ov_sc e_i_taped rfl)) rfl rfl rfl rfl rfl
  have hS : va_S (gA G) s.heap s.heap [] := va_S.rf
  have hend : ∀ (pc : Nat) (H : Heap) (locs : List Loc) (ls : Array Slot), decode cX14_take pc = .ok (.ireturn, 1) → RS G K (ov I [(1102, o, out.2)]) J X A B Q H → va_S (gA G) s.heap H locs → W p l e ({ frames := 0, cells := 0, slots := 0, locals := 0 } : Room) s m ([.ref o] : List Value).toArray below meth c H locs 0 0 (MQ below (gQ G (some (.int out.1)) K (ov I [(1102, o, out.2)]) J X A B Q) ([.ref o] : List Value).toArray s 0 0 (gA G)) (F0 m pc ls [.int out.1]) := fun pc H locs ls hd hR hS => g_iret hx hb hr hlocks hG hR hS rfl hd
  generalize MQ below (gQ G (some (.int out.1)) K (ov I [(1102, o, out.2)]) J X A B Q) ([.ref o] : List Value).toArray s 0 0 (gA G) = Z at hend ⊢
  generalize ([.ref o] : List Value).toArray = args at hts hend ⊢
  unfold f14_take at hf
  refine lv_aload_n hx hb dX14_take_0 rfl (lv_at hl 0 rfl) ?_
  refine n_geti (v := i_taped) hx hb hts hown hG hR gFi_X14_151_11 shM.1 (ov_get 0 rfl rfl) dX14_take_1 ?_
  refine lv_istore_n (lv' := [(1, .int i_taped), (0, .ref o)]) hx hb dX14_take_4 rfl hl (by decide) rfl (fun ls hl => ?_)
  refine lv_aload_n hx hb dX14_take_5 rfl (lv_at hl 1 rfl) ?_
  refine lv_iconst (v := 0) hx hb dX14_take_6 li_0 ?_
  refine n_puti (li' := [(1102, o, (0 : Int32))]) hx hb hts hown hG hR hS gPi_X14_151_11 shM.1 0 rfl rfl rfl dX14_take_7 (fun H locs hR hS => ?_)
  refine lv_iload_n hx hb dX14_take_10 rfl (lv_at hl 0 rfl) ?_
  obtain rfl := some_i hf
  exact hend _ _ _ _ dX14_take_11 hR hS
noncomputable def f14_isLetter_j16  : Option (Int32) :=
  some (0 : Int32)

noncomputable def f14_isLetter (p1 : Int32) : Option (Int32) :=
  if p1 < (97 : Int32) then
    f14_isLetter_j16
  else
    if (122 : Int32) < p1 then
      f14_isLetter_j16
    else
      some (1 : Int32)
set_option maxHeartbeats 4000000 in
theorem m14_isLetter (l : Launch) (G : gG) (K : gK) (I : gI) (J : gJ) (X : gX) (A : gI) (B : gJ) (Q : gX)  (p1 : Int32)   (out : Int32) (hf : f14_isLetter p1 = some out) : GMet l yX14_isLetter cX14_isLetter 1 (some .boolean) (0) (0) G [.int p1] K I J X A B Q (some (.int out)) K I J X A B Q 0 0 := by
  refine GMet.of (y := yX14_isLetter) rfl (Nat.le_of_ble_eq_true rfl) rfl ?_
  intro p e s m below meth c ls hx hb hr hml hlocks hts hown hname hG hR hl
  have hown : s.vm.findClass RX14 = some m.cls := hown
  have hR : RS G K I J X A B Q s.heap := hR.to rfl rfl rfl rfl rfl rfl
  have hS : va_S (gA G) s.heap s.heap [] := va_S.rf
  have hend : ∀ (pc : Nat) (H : Heap) (locs : List Loc) (ls : Array Slot), decode cX14_isLetter pc = .ok (.ireturn, 1) → narrow .boolean (.int out) = .int out → RS G K I J X A B Q H → va_S (gA G) s.heap H locs → W p l e ({ frames := 0, cells := 0, slots := 0, locals := 0 } : Room) s m ([.int p1] : List Value).toArray below meth c H locs 0 0 (MQ below (gQ G (some (.int out)) K I J X A B Q) ([.int p1] : List Value).toArray s 0 0 (gA G)) (F0 m pc ls [.int out]) := fun pc H locs ls hd hz hR hS => g_zret hx hb hr hlocks hz hG hR hS rfl hd
  generalize MQ below (gQ G (some (.int out)) K I J X A B Q) ([.int p1] : List Value).toArray s 0 0 (gA G) = Z at hend ⊢
  generalize ([.int p1] : List Value).toArray = args at hts hend ⊢
  unfold f14_isLetter at hf
  refine lv_iload_n hx hb dX14_isLetter_0 rfl (lv_at hl 0 rfl) ?_
  refine lv_bipush (v := 97) hx hb dX14_isLetter_1 lb_97 ?_
  have hj16 : ∀ (_ : Unit), f14_isLetter_j16 = some out → ∀ (H : Heap) (locs : List Loc) (ls : Array Slot), RS G K I J X A B Q H → va_S (gA G) s.heap H locs → lv_has ls 1 [] → W p l e ({ frames := 0, cells := 0, slots := 0, locals := 0 } : Room) s m args below meth c H locs 0 0 Z (F0 m 16 ls []) := by
    intro _ hf H locs ls hR hS hl
    unfold f14_isLetter_j16 at hf
    refine lv_iconst (v := 0) hx hb dX14_isLetter_16 li_0 ?_
    obtain rfl := some_i hf
    exact hend _ _ _ _ dX14_isLetter_17 nz_0 hR hS
  refine lv_icmp_lt (tgt := 16) hx hb dX14_isLetter_3 (by decide) (fun c1 => ?_) (fun c1 => ?_)
  · have hf := ite_t c1 hf
    exact hj16 () hf _ _ _ hR hS (lv_sub hl [] rfl)
  · have hf := ite_f c1 hf
    refine lv_iload_n hx hb dX14_isLetter_6 rfl (lv_at hl 0 rfl) ?_
    refine lv_bipush (v := 122) hx hb dX14_isLetter_7 lb_122 ?_
    refine lv_icmp_gt (tgt := 16) hx hb dX14_isLetter_9 (by decide) (fun c2 => ?_) (fun c2 => ?_)
    · have hf := ite_t c2 hf
      exact hj16 () hf _ _ _ hR hS (lv_sub hl [] rfl)
    · have hf := ite_f c2 hf
      refine lv_iconst (v := 1) hx hb dX14_isLetter_12 li_1 ?_
      refine lv_goto (tgt := 17) hx hb dX14_isLetter_13 (by decide) ?_
      obtain rfl := some_i hf
      exact hend _ _ _ _ dX14_isLetter_17 nz_1 hR hS
noncomputable def f14_isDigit_j16  : Option (Int32) :=
  some (0 : Int32)

noncomputable def f14_isDigit (p1 : Int32) : Option (Int32) :=
  if p1 < (48 : Int32) then
    f14_isDigit_j16
  else
    if (57 : Int32) < p1 then
      f14_isDigit_j16
    else
      some (1 : Int32)
set_option maxHeartbeats 4000000 in
theorem m14_isDigit (l : Launch) (G : gG) (K : gK) (I : gI) (J : gJ) (X : gX) (A : gI) (B : gJ) (Q : gX)  (p1 : Int32)   (out : Int32) (hf : f14_isDigit p1 = some out) : GMet l yX14_isDigit cX14_isDigit 1 (some .boolean) (0) (0) G [.int p1] K I J X A B Q (some (.int out)) K I J X A B Q 0 0 := by
  refine GMet.of (y := yX14_isDigit) rfl (Nat.le_of_ble_eq_true rfl) rfl ?_
  intro p e s m below meth c ls hx hb hr hml hlocks hts hown hname hG hR hl
  have hown : s.vm.findClass RX14 = some m.cls := hown
  have hR : RS G K I J X A B Q s.heap := hR.to rfl rfl rfl rfl rfl rfl
  have hS : va_S (gA G) s.heap s.heap [] := va_S.rf
  have hend : ∀ (pc : Nat) (H : Heap) (locs : List Loc) (ls : Array Slot), decode cX14_isDigit pc = .ok (.ireturn, 1) → narrow .boolean (.int out) = .int out → RS G K I J X A B Q H → va_S (gA G) s.heap H locs → W p l e ({ frames := 0, cells := 0, slots := 0, locals := 0 } : Room) s m ([.int p1] : List Value).toArray below meth c H locs 0 0 (MQ below (gQ G (some (.int out)) K I J X A B Q) ([.int p1] : List Value).toArray s 0 0 (gA G)) (F0 m pc ls [.int out]) := fun pc H locs ls hd hz hR hS => g_zret hx hb hr hlocks hz hG hR hS rfl hd
  generalize MQ below (gQ G (some (.int out)) K I J X A B Q) ([.int p1] : List Value).toArray s 0 0 (gA G) = Z at hend ⊢
  generalize ([.int p1] : List Value).toArray = args at hts hend ⊢
  unfold f14_isDigit at hf
  refine lv_iload_n hx hb dX14_isDigit_0 rfl (lv_at hl 0 rfl) ?_
  refine lv_bipush (v := 48) hx hb dX14_isDigit_1 lb_48 ?_
  have hj16 : ∀ (_ : Unit), f14_isDigit_j16 = some out → ∀ (H : Heap) (locs : List Loc) (ls : Array Slot), RS G K I J X A B Q H → va_S (gA G) s.heap H locs → lv_has ls 1 [] → W p l e ({ frames := 0, cells := 0, slots := 0, locals := 0 } : Room) s m args below meth c H locs 0 0 Z (F0 m 16 ls []) := by
    intro _ hf H locs ls hR hS hl
    unfold f14_isDigit_j16 at hf
    refine lv_iconst (v := 0) hx hb dX14_isDigit_16 li_0 ?_
    obtain rfl := some_i hf
    exact hend _ _ _ _ dX14_isDigit_17 nz_0 hR hS
  refine lv_icmp_lt (tgt := 16) hx hb dX14_isDigit_3 (by decide) (fun c1 => ?_) (fun c1 => ?_)
  · have hf := ite_t c1 hf
    exact hj16 () hf _ _ _ hR hS (lv_sub hl [] rfl)
  · have hf := ite_f c1 hf
    refine lv_iload_n hx hb dX14_isDigit_6 rfl (lv_at hl 0 rfl) ?_
    refine lv_bipush (v := 57) hx hb dX14_isDigit_7 lb_57 ?_
    refine lv_icmp_gt (tgt := 16) hx hb dX14_isDigit_9 (by decide) (fun c2 => ?_) (fun c2 => ?_)
    · have hf := ite_t c2 hf
      exact hj16 () hf _ _ _ hR hS (lv_sub hl [] rfl)
    · have hf := ite_f c2 hf
      refine lv_iconst (v := 1) hx hb dX14_isDigit_12 li_1 ?_
      refine lv_goto (tgt := 17) hx hb dX14_isDigit_13 (by decide) ?_
      obtain rfl := some_i hf
      exact hend _ _ _ _ dX14_isDigit_17 nz_1 hR hS
noncomputable def f14_byteAt (p1 : Int32) (i_size : Int32) (a_tape : Nat → Int32) : Option (Int32) :=
  if i_size ≤ p1 then
    some (0 : Int32)
  else
    gd (inb p1 740) <|
    lt (a_tape p1.toNatClampNeg) fun v3 =>
    some v3
set_option maxHeartbeats 4000000 in
theorem m14_byteAt (l : Launch) (G : gG) (K : gK) (I : gI) (J : gJ) (X : gX) (A : gI) (B : gJ) (Q : gX) (o : Nat) (shM : Sh K X o 11 rows11) (p1 : Int32) (i_size : Int32) (a_tape : Nat → Int32) (e_i_size : I 1103 o = i_size) (e_a_tape : A (o + 1) = a_tape) (out : Int32) (hf : f14_byteAt p1 i_size a_tape = some out) : GMet l yX14_byteAt cX14_byteAt 2 (some .int) (0) (0) G [.ref o, .int p1] K I J X A B Q (some (.int out)) K I J X A B Q 0 0 := by
  refine GMet.of (y := yX14_byteAt) rfl (Nat.le_of_ble_eq_true rfl) rfl ?_
  intro p e s m below meth c ls hx hb hr hml hlocks hts hown hname hG hR hl
  have hown : s.vm.findClass RX14 = some m.cls := hown
  have k_a_tape : K (o + 1) = some (.inr (0, 740)) := (shM.2 0 _ rfl).1
  have hR : RS G K I J X A B Q s.heap := hR.to rfl rfl rfl rfl rfl rfl
  have hS : va_S (gA G) s.heap s.heap [] := va_S.rf
  have hend : ∀ (pc : Nat) (H : Heap) (locs : List Loc) (ls : Array Slot), decode cX14_byteAt pc = .ok (.ireturn, 1) → RS G K I J X A B Q H → va_S (gA G) s.heap H locs → W p l e ({ frames := 0, cells := 0, slots := 0, locals := 0 } : Room) s m ([.ref o, .int p1] : List Value).toArray below meth c H locs 0 0 (MQ below (gQ G (some (.int out)) K I J X A B Q) ([.ref o, .int p1] : List Value).toArray s 0 0 (gA G)) (F0 m pc ls [.int out]) := fun pc H locs ls hd hR hS => g_iret hx hb hr hlocks hG hR hS rfl hd
  generalize MQ below (gQ G (some (.int out)) K I J X A B Q) ([.ref o, .int p1] : List Value).toArray s 0 0 (gA G) = Z at hend ⊢
  generalize ([.ref o, .int p1] : List Value).toArray = args at hts hend ⊢
  unfold f14_byteAt at hf
  refine lv_iload_n hx hb dX14_byteAt_0 rfl (lv_at hl 1 rfl) ?_
  refine lv_aload_n hx hb dX14_byteAt_1 rfl (lv_at hl 0 rfl) ?_
  refine n_geti (v := i_size) hx hb hts hown hG hR gFi_X14_158_11 shM.1 e_i_size dX14_byteAt_2 ?_
  refine lv_icmp_ge (tgt := 17) hx hb dX14_byteAt_5 (by decide) (fun c1 => ?_) (fun c1 => ?_)
  · have hf := ite_t c1 hf
    refine lv_iconst (v := 0) hx hb dX14_byteAt_17 li_0 ?_
    obtain rfl := some_i hf
    exact hend _ _ _ _ dX14_byteAt_18 hR hS
  · have hf := ite_f c1 hf
    refine lv_aload_n hx hb dX14_byteAt_8 rfl (lv_at hl 0 rfl) ?_
    refine g_getr (b := (o + 1)) hx hb hts hown hG hR gFx_X14_7_11 shM.1 ((shM.2 0 _ rfl).2) dX14_byteAt_9 ?_
    refine lv_iload_n hx hb dX14_byteAt_12 rfl (lv_at hl 1 rfl) ?_
    obtain ⟨c2, hf⟩ := gd_some hf
    obtain ⟨v3, ev3, hf⟩ := lt_some hf
    refine n_iald (x := a_tape) hx hb hG hR k_a_tape c2 e_a_tape ev3 dX14_byteAt_13 ?_
    refine lv_goto (tgt := 18) hx hb dX14_byteAt_14 (by decide) ?_
    obtain rfl := some_i hf
    exact hend _ _ _ _ dX14_byteAt_18 hR hS
noncomputable def f14_spelt_j57 (p5 : Int32) (j57_5 : Int64) : Option (Int64) :=
  if p5 ≤ 0 then
    some j57_5
  else
    lt ((27 : Int64) * j57_5) fun v8 =>
    lt (p5.toInt64) fun v9 =>
    lt (v8 + v9) fun v10 =>
    lt (v10 - (96 : Int64)) fun v11 =>
    some v11

noncomputable def f14_spelt_j38 (p4 : Int32) (p5 : Int32) (j38_5 : Int64) : Option (Int64) :=
  if p4 ≤ 0 then
    f14_spelt_j57 p5 j38_5
  else
    lt ((27 : Int64) * j38_5) fun v13 =>
    lt (p4.toInt64) fun v14 =>
    lt (v13 + v14) fun v15 =>
    lt (v15 - (96 : Int64)) fun v16 =>
    f14_spelt_j57 p5 v16

noncomputable def f14_spelt (p1 : Int32) (p2 : Int32) (p3 : Int32) (p4 : Int32) (p5 : Int32) : Option (Int64) :=
  lt (p1.toInt64) fun v1 =>
  lt (v1 - (96 : Int64)) fun v2 =>
  lt ((27 : Int64) * v2) fun v3 =>
  lt (p2.toInt64) fun v4 =>
  lt (v3 + v4) fun v5 =>
  lt (v5 - (96 : Int64)) fun v6 =>
  if p3 ≤ 0 then
    f14_spelt_j38 p4 p5 v6
  else
    lt ((27 : Int64) * v6) fun v18 =>
    lt (p3.toInt64) fun v19 =>
    lt (v18 + v19) fun v20 =>
    lt (v20 - (96 : Int64)) fun v21 =>
    f14_spelt_j38 p4 p5 v21
set_option maxHeartbeats 4000000 in
theorem m14_spelt (l : Launch) (G : gG) (K : gK) (I : gI) (J : gJ) (X : gX) (A : gI) (B : gJ) (Q : gX)  (p1 : Int32) (p2 : Int32) (p3 : Int32) (p4 : Int32) (p5 : Int32)   (out : Int64) (hf : f14_spelt p1 p2 p3 p4 p5 = some out) : GMet l yX14_spelt cX14_spelt 7 (some .long) (0) (0) G [.int p1, .int p2, .int p3, .int p4, .int p5] K I J X A B Q (some (.long out)) K I J X A B Q 0 0 := by
  refine GMet.of (y := yX14_spelt) rfl (Nat.le_of_ble_eq_true rfl) rfl ?_
  intro p e s m below meth c ls hx hb hr hml hlocks hts hown hname hG hR hl
  have hown : s.vm.findClass RX14 = some m.cls := hown
  have hR : RS G K I J X A B Q s.heap := hR.to rfl rfl rfl rfl rfl rfl
  have hS : va_S (gA G) s.heap s.heap [] := va_S.rf
  have hend : ∀ (pc : Nat) (H : Heap) (locs : List Loc) (ls : Array Slot), decode cX14_spelt pc = .ok (.lreturn, 1) → RS G K I J X A B Q H → va_S (gA G) s.heap H locs → W p l e ({ frames := 0, cells := 0, slots := 0, locals := 0 } : Room) s m ([.int p1, .int p2, .int p3, .int p4, .int p5] : List Value).toArray below meth c H locs 0 0 (MQ below (gQ G (some (.long out)) K I J X A B Q) ([.int p1, .int p2, .int p3, .int p4, .int p5] : List Value).toArray s 0 0 (gA G)) (F0 m pc ls [.long out]) := fun pc H locs ls hd hR hS => g_lret hx hb hr hlocks hG hR hS rfl hd
  generalize MQ below (gQ G (some (.long out)) K I J X A B Q) ([.int p1, .int p2, .int p3, .int p4, .int p5] : List Value).toArray s 0 0 (gA G) = Z at hend ⊢
  generalize ([.int p1, .int p2, .int p3, .int p4, .int p5] : List Value).toArray = args at hts hend ⊢
  unfold f14_spelt at hf
  refine lv_ldc2 hx hb hown (hts _ q1940) dX14_spelt_0 ?_
  refine lv_iload_n hx hb dX14_spelt_3 rfl (lv_at hl 0 rfl) ?_
  obtain ⟨v1, ev1, hf⟩ := lt_some hf
  refine n_i2l hx hb ev1 dX14_spelt_4 ?_
  refine lv_ldc2 hx hb hown (hts _ q1941) dX14_spelt_5 ?_
  obtain ⟨v2, ev2, hf⟩ := lt_some hf
  refine n_lsub hx hb ev2 dX14_spelt_8 ?_
  obtain ⟨v3, ev3, hf⟩ := lt_some hf
  refine n_lmul hx hb ev3 dX14_spelt_9 ?_
  refine lv_iload_n hx hb dX14_spelt_10 rfl (lv_at hl 1 rfl) ?_
  obtain ⟨v4, ev4, hf⟩ := lt_some hf
  refine n_i2l hx hb ev4 dX14_spelt_11 ?_
  obtain ⟨v5, ev5, hf⟩ := lt_some hf
  refine n_ladd hx hb ev5 dX14_spelt_12 ?_
  refine lv_ldc2 hx hb hown (hts _ q1941) dX14_spelt_13 ?_
  obtain ⟨v6, ev6, hf⟩ := lt_some hf
  refine n_lsub hx hb ev6 dX14_spelt_16 ?_
  refine lv_lstore (lv' := [(5, .long v6), (0, .int p1), (1, .int p2), (2, .int p3), (3, .int p4), (4, .int p5)]) hx hb dX14_spelt_17 hl (by decide) rfl (fun ls hl => ?_)
  refine lv_iload_n hx hb dX14_spelt_19 rfl (lv_at hl 3 rfl) ?_
  have hj38 : ∀ (j38_5 : Int64), f14_spelt_j38 p4 p5 j38_5 = some out → ∀ (H : Heap) (locs : List Loc) (ls : Array Slot), RS G K I J X A B Q H → va_S (gA G) s.heap H locs → lv_has ls 7 [(3, .int p4), (4, .int p5), (5, .long j38_5)] → W p l e ({ frames := 0, cells := 0, slots := 0, locals := 0 } : Room) s m args below meth c H locs 0 0 Z (F0 m 38 ls []) := by
    intro j38_5 hf H locs ls hR hS hl
    unfold f14_spelt_j38 at hf
    refine lv_iload_n hx hb dX14_spelt_38 rfl (lv_at hl 0 rfl) ?_
    have hj57 : ∀ (j57_5 : Int64), f14_spelt_j57 p5 j57_5 = some out → ∀ (H : Heap) (locs : List Loc) (ls : Array Slot), RS G K I J X A B Q H → va_S (gA G) s.heap H locs → lv_has ls 7 [(4, .int p5), (5, .long j57_5)] → W p l e ({ frames := 0, cells := 0, slots := 0, locals := 0 } : Room) s m args below meth c H locs 0 0 Z (F0 m 57 ls []) := by
      intro j57_5 hf H locs ls hR hS hl
      unfold f14_spelt_j57 at hf
      refine lv_iload hx hb dX14_spelt_57 (lv_at hl 0 rfl) ?_
      refine lv_if_le (tgt := 79) hx hb dX14_spelt_59 (by decide) (fun c7 => ?_) (fun c7 => ?_)
      · have hf := ite_t c7 hf
        refine lv_lload hx hb dX14_spelt_79 (lv_at hl 1 rfl) ?_
        obtain rfl := some_i hf
        exact hend _ _ _ _ dX14_spelt_81 hR hS
      · have hf := ite_f c7 hf
        refine lv_ldc2 hx hb hown (hts _ q1940) dX14_spelt_62 ?_
        refine lv_lload hx hb dX14_spelt_65 (lv_at hl 1 rfl) ?_
        obtain ⟨v8, ev8, hf⟩ := lt_some hf
        refine n_lmul hx hb ev8 dX14_spelt_67 ?_
        refine lv_iload hx hb dX14_spelt_68 (lv_at hl 0 rfl) ?_
        obtain ⟨v9, ev9, hf⟩ := lt_some hf
        refine n_i2l hx hb ev9 dX14_spelt_70 ?_
        obtain ⟨v10, ev10, hf⟩ := lt_some hf
        refine n_ladd hx hb ev10 dX14_spelt_71 ?_
        refine lv_ldc2 hx hb hown (hts _ q1941) dX14_spelt_72 ?_
        obtain ⟨v11, ev11, hf⟩ := lt_some hf
        refine n_lsub hx hb ev11 dX14_spelt_75 ?_
        refine lv_goto (tgt := 81) hx hb dX14_spelt_76 (by decide) ?_
        obtain rfl := some_i hf
        exact hend _ _ _ _ dX14_spelt_81 hR hS
    refine lv_if_le (tgt := 57) hx hb dX14_spelt_39 (by decide) (fun c12 => ?_) (fun c12 => ?_)
    · have hf := ite_t c12 hf
      exact hj57 j38_5 hf _ _ _ hR hS (lv_sub hl [1, 2] rfl)
    · have hf := ite_f c12 hf
      refine lv_ldc2 hx hb hown (hts _ q1940) dX14_spelt_42 ?_
      refine lv_lload hx hb dX14_spelt_45 (lv_at hl 2 rfl) ?_
      obtain ⟨v13, ev13, hf⟩ := lt_some hf
      refine n_lmul hx hb ev13 dX14_spelt_47 ?_
      refine lv_iload_n hx hb dX14_spelt_48 rfl (lv_at hl 0 rfl) ?_
      obtain ⟨v14, ev14, hf⟩ := lt_some hf
      refine n_i2l hx hb ev14 dX14_spelt_49 ?_
      obtain ⟨v15, ev15, hf⟩ := lt_some hf
      refine n_ladd hx hb ev15 dX14_spelt_50 ?_
      refine lv_ldc2 hx hb hown (hts _ q1941) dX14_spelt_51 ?_
      obtain ⟨v16, ev16, hf⟩ := lt_some hf
      refine n_lsub hx hb ev16 dX14_spelt_54 ?_
      refine lv_lstore (lv' := [(5, .long v16), (3, .int p4), (4, .int p5)]) hx hb dX14_spelt_55 hl (by decide) rfl (fun ls hl => ?_)
      exact hj57 v16 hf _ _ _ hR hS (lv_sub hl [2, 0] rfl)
  refine lv_if_le (tgt := 38) hx hb dX14_spelt_20 (by decide) (fun c17 => ?_) (fun c17 => ?_)
  · have hf := ite_t c17 hf
    exact hj38 v6 hf _ _ _ hR hS (lv_sub hl [4, 5, 0] rfl)
  · have hf := ite_f c17 hf
    refine lv_ldc2 hx hb hown (hts _ q1940) dX14_spelt_23 ?_
    refine lv_lload hx hb dX14_spelt_26 (lv_at hl 0 rfl) ?_
    obtain ⟨v18, ev18, hf⟩ := lt_some hf
    refine n_lmul hx hb ev18 dX14_spelt_28 ?_
    refine lv_iload_n hx hb dX14_spelt_29 rfl (lv_at hl 3 rfl) ?_
    obtain ⟨v19, ev19, hf⟩ := lt_some hf
    refine n_i2l hx hb ev19 dX14_spelt_30 ?_
    obtain ⟨v20, ev20, hf⟩ := lt_some hf
    refine n_ladd hx hb ev20 dX14_spelt_31 ?_
    refine lv_ldc2 hx hb hown (hts _ q1941) dX14_spelt_32 ?_
    obtain ⟨v21, ev21, hf⟩ := lt_some hf
    refine n_lsub hx hb ev21 dX14_spelt_35 ?_
    refine lv_lstore (lv' := [(5, .long v21), (0, .int p1), (1, .int p2), (2, .int p3), (3, .int p4), (4, .int p5)]) hx hb dX14_spelt_36 hl (by decide) rfl (fun ls hl => ?_)
    exact hj38 v21 hf _ _ _ hR hS (lv_sub hl [4, 5, 0] rfl)
noncomputable def f14_on (p1 : Int64) (p2 : Int32) : Option (Int64) :=
  lt ((27 : Int64) * p1) fun v1 =>
  lt (p2.toInt64) fun v2 =>
  lt (v1 + v2) fun v3 =>
  lt (v3 - (96 : Int64)) fun v4 =>
  some v4
set_option maxHeartbeats 4000000 in
theorem m14_on (l : Launch) (G : gG) (K : gK) (I : gI) (J : gJ) (X : gX) (A : gI) (B : gJ) (Q : gX)  (p1 : Int64) (p2 : Int32)   (out : Int64) (hf : f14_on p1 p2 = some out) : GMet l yX14_on cX14_on 3 (some .long) (0) (0) G [.long p1, .int p2] K I J X A B Q (some (.long out)) K I J X A B Q 0 0 := by
  refine GMet.of (y := yX14_on) rfl (Nat.le_of_ble_eq_true rfl) rfl ?_
  intro p e s m below meth c ls hx hb hr hml hlocks hts hown hname hG hR hl
  have hown : s.vm.findClass RX14 = some m.cls := hown
  have hR : RS G K I J X A B Q s.heap := hR.to rfl rfl rfl rfl rfl rfl
  have hS : va_S (gA G) s.heap s.heap [] := va_S.rf
  have hend : ∀ (pc : Nat) (H : Heap) (locs : List Loc) (ls : Array Slot), decode cX14_on pc = .ok (.lreturn, 1) → RS G K I J X A B Q H → va_S (gA G) s.heap H locs → W p l e ({ frames := 0, cells := 0, slots := 0, locals := 0 } : Room) s m ([.long p1, .int p2] : List Value).toArray below meth c H locs 0 0 (MQ below (gQ G (some (.long out)) K I J X A B Q) ([.long p1, .int p2] : List Value).toArray s 0 0 (gA G)) (F0 m pc ls [.long out]) := fun pc H locs ls hd hR hS => g_lret hx hb hr hlocks hG hR hS rfl hd
  generalize MQ below (gQ G (some (.long out)) K I J X A B Q) ([.long p1, .int p2] : List Value).toArray s 0 0 (gA G) = Z at hend ⊢
  generalize ([.long p1, .int p2] : List Value).toArray = args at hts hend ⊢
  unfold f14_on at hf
  refine lv_ldc2 hx hb hown (hts _ q1940) dX14_on_0 ?_
  refine lv_lload_n hx hb dX14_on_3 rfl (lv_at hl 0 rfl) ?_
  obtain ⟨v1, ev1, hf⟩ := lt_some hf
  refine n_lmul hx hb ev1 dX14_on_4 ?_
  refine lv_iload_n hx hb dX14_on_5 rfl (lv_at hl 1 rfl) ?_
  obtain ⟨v2, ev2, hf⟩ := lt_some hf
  refine n_i2l hx hb ev2 dX14_on_6 ?_
  obtain ⟨v3, ev3, hf⟩ := lt_some hf
  refine n_ladd hx hb ev3 dX14_on_7 ?_
  refine lv_ldc2 hx hb hown (hts _ q1941) dX14_on_8 ?_
  obtain ⟨v4, ev4, hf⟩ := lt_some hf
  refine n_lsub hx hb ev4 dX14_on_11 ?_
  obtain rfl := some_i hf
  exact hend _ _ _ _ dX14_on_12 hR hS
noncomputable def f14_bad_j14 (i_from : Int32) (j14_s0 : Int32) : Option (Int32 × Int32 × Int32) :=
  some ((0 : Int32), j14_s0, i_from)

noncomputable def f14_bad (p1 : Int32) (i_from : Int32) (i_kind : Int32) (i_fault : Int32) (i_at : Int32) : Option (Int32 × Int32 × Int32) :=
  if i_kind = (1 : Int32) then
    f14_bad_j14 i_from (1 : Int32)
  else
    f14_bad_j14 i_from p1
set_option maxHeartbeats 4000000 in
theorem m14_bad (l : Launch) (G : gG) (K : gK) (I : gI) (J : gJ) (X : gX) (A : gI) (B : gJ) (Q : gX) (o : Nat) (shM : Sh K X o 11 rows11) (p1 : Int32) (i_from : Int32) (i_kind : Int32) (i_fault : Int32) (i_at : Int32) (e_i_from : I 1106 o = i_from) (e_i_kind : I 1107 o = i_kind) (e_i_fault : I 1110 o = i_fault) (e_i_at : I 1111 o = i_at) (out : Int32 × Int32 × Int32) (hf : f14_bad p1 i_from i_kind i_fault i_at = some out) : GMet l yX14_bad cX14_bad 2 (some .boolean) (0) (0) G [.ref o, .int p1] K I J X A B Q (some (.int out.1)) K (ov I [(1110, o, out.2.1), (1111, o, out.2.2)]) J X A B Q 0 0 := by
  refine GMet.of (y := yX14_bad) rfl (Nat.le_of_ble_eq_true rfl) rfl ?_
  intro p e s m below meth c ls hx hb hr hml hlocks hts hown hname hG hR hl
  have hown : s.vm.findClass RX14 = some m.cls := hown
  have hR : RS G K (ov I [(1110, o, i_fault), (1111, o, i_at)]) J X A B Q s.heap := hR.to (Eq.symm (ov_sc e_i_fault (ov_sc e_i_at rfl))) rfl rfl rfl rfl rfl
  have hS : va_S (gA G) s.heap s.heap [] := va_S.rf
  have hend : ∀ (pc : Nat) (H : Heap) (locs : List Loc) (ls : Array Slot), decode cX14_bad pc = .ok (.ireturn, 1) → narrow .boolean (.int out.1) = .int out.1 → RS G K (ov I [(1110, o, out.2.1), (1111, o, out.2.2)]) J X A B Q H → va_S (gA G) s.heap H locs → W p l e ({ frames := 0, cells := 0, slots := 0, locals := 0 } : Room) s m ([.ref o, .int p1] : List Value).toArray below meth c H locs 0 0 (MQ below (gQ G (some (.int out.1)) K (ov I [(1110, o, out.2.1), (1111, o, out.2.2)]) J X A B Q) ([.ref o, .int p1] : List Value).toArray s 0 0 (gA G)) (F0 m pc ls [.int out.1]) := fun pc H locs ls hd hz hR hS => g_zret hx hb hr hlocks hz hG hR hS rfl hd
  generalize MQ below (gQ G (some (.int out.1)) K (ov I [(1110, o, out.2.1), (1111, o, out.2.2)]) J X A B Q) ([.ref o, .int p1] : List Value).toArray s 0 0 (gA G) = Z at hend ⊢
  generalize ([.ref o, .int p1] : List Value).toArray = args at hts hend ⊢
  unfold f14_bad at hf
  refine lv_aload_n hx hb dX14_bad_0 rfl (lv_at hl 0 rfl) ?_
  refine lv_aload_n hx hb dX14_bad_1 rfl (lv_at hl 0 rfl) ?_
  refine n_geti (v := i_kind) hx hb hts hown hG hR gFi_X14_170_11 shM.1 ((congrFun (ov_no rfl) _).trans e_i_kind) dX14_bad_2 ?_
  refine lv_iconst (v := 1) hx hb dX14_bad_5 li_1 ?_
  have hj14 : ∀ (j14_s0 : Int32), f14_bad_j14 i_from j14_s0 = some out → ∀ (H : Heap) (locs : List Loc) (ls : Array Slot), RS G K (ov I [(1110, o, i_fault), (1111, o, i_at)]) J X A B Q H → va_S (gA G) s.heap H locs → lv_has ls 2 [(0, .ref o)] → W p l e ({ frames := 0, cells := 0, slots := 0, locals := 0 } : Room) s m args below meth c H locs 0 0 Z (F0 m 14 ls [.int j14_s0, .ref o]) := by
    intro j14_s0 hf H locs ls hR hS hl
    unfold f14_bad_j14 at hf
    refine n_puti (li' := [(1110, o, j14_s0), (1111, o, i_at)]) hx hb hts hown hG hR hS gPi_X14_210_11 shM.1 0 rfl rfl rfl dX14_bad_14 (fun H locs hR hS => ?_)
    refine lv_aload_n hx hb dX14_bad_17 rfl (lv_at hl 0 rfl) ?_
    refine lv_aload_n hx hb dX14_bad_18 rfl (lv_at hl 0 rfl) ?_
    refine n_geti (v := i_from) hx hb hts hown hG hR gFi_X14_164_11 shM.1 ((congrFun (ov_no rfl) _).trans e_i_from) dX14_bad_19 ?_
    refine n_puti (li' := [(1110, o, j14_s0), (1111, o, i_from)]) hx hb hts hown hG hR hS gPi_X14_213_11 shM.1 1 rfl rfl rfl dX14_bad_22 (fun H locs hR hS => ?_)
    refine lv_iconst (v := 0) hx hb dX14_bad_25 li_0 ?_
    obtain rfl := some_i hf
    exact hend _ _ _ _ dX14_bad_26 nz_0 hR hS
  refine lv_icmp_ne (tgt := 13) hx hb dX14_bad_6 (by decide) (fun c1 => ?_) (fun c1 => ?_)
  · have hf := ite_f c1 hf
    refine lv_iload_n hx hb dX14_bad_13 rfl (lv_at hl 1 rfl) ?_
    exact hj14 p1 hf _ _ _ hR hS (lv_sub hl [0] rfl)
  · have hf := ite_t c1 hf
    refine lv_iconst (v := 1) hx hb dX14_bad_9 li_1 ?_
    refine lv_goto (tgt := 14) hx hb dX14_bad_10 (by decide) ?_
    exact hj14 (1 : Int32) hf _ _ _ hR hS (lv_sub hl [0] rfl)
noncomputable def f14_isIn_j14  : Option (Int32) :=
  some (0 : Int32)

noncomputable def f14_isIn (p1 : Int32) (p2 : Int32) (p3 : Int32) : Option (Int32) :=
  if p1 < p2 then
    f14_isIn_j14
  else
    if p3 < p1 then
      f14_isIn_j14
    else
      some (1 : Int32)
set_option maxHeartbeats 4000000 in
theorem m14_isIn (l : Launch) (G : gG) (K : gK) (I : gI) (J : gJ) (X : gX) (A : gI) (B : gJ) (Q : gX)  (p1 : Int32) (p2 : Int32) (p3 : Int32)   (out : Int32) (hf : f14_isIn p1 p2 p3 = some out) : GMet l yX14_isIn cX14_isIn 3 (some .boolean) (0) (0) G [.int p1, .int p2, .int p3] K I J X A B Q (some (.int out)) K I J X A B Q 0 0 := by
  refine GMet.of (y := yX14_isIn) rfl (Nat.le_of_ble_eq_true rfl) rfl ?_
  intro p e s m below meth c ls hx hb hr hml hlocks hts hown hname hG hR hl
  have hown : s.vm.findClass RX14 = some m.cls := hown
  have hR : RS G K I J X A B Q s.heap := hR.to rfl rfl rfl rfl rfl rfl
  have hS : va_S (gA G) s.heap s.heap [] := va_S.rf
  have hend : ∀ (pc : Nat) (H : Heap) (locs : List Loc) (ls : Array Slot), decode cX14_isIn pc = .ok (.ireturn, 1) → narrow .boolean (.int out) = .int out → RS G K I J X A B Q H → va_S (gA G) s.heap H locs → W p l e ({ frames := 0, cells := 0, slots := 0, locals := 0 } : Room) s m ([.int p1, .int p2, .int p3] : List Value).toArray below meth c H locs 0 0 (MQ below (gQ G (some (.int out)) K I J X A B Q) ([.int p1, .int p2, .int p3] : List Value).toArray s 0 0 (gA G)) (F0 m pc ls [.int out]) := fun pc H locs ls hd hz hR hS => g_zret hx hb hr hlocks hz hG hR hS rfl hd
  generalize MQ below (gQ G (some (.int out)) K I J X A B Q) ([.int p1, .int p2, .int p3] : List Value).toArray s 0 0 (gA G) = Z at hend ⊢
  generalize ([.int p1, .int p2, .int p3] : List Value).toArray = args at hts hend ⊢
  unfold f14_isIn at hf
  refine lv_iload_n hx hb dX14_isIn_0 rfl (lv_at hl 0 rfl) ?_
  refine lv_iload_n hx hb dX14_isIn_1 rfl (lv_at hl 1 rfl) ?_
  have hj14 : ∀ (_ : Unit), f14_isIn_j14 = some out → ∀ (H : Heap) (locs : List Loc) (ls : Array Slot), RS G K I J X A B Q H → va_S (gA G) s.heap H locs → lv_has ls 3 [] → W p l e ({ frames := 0, cells := 0, slots := 0, locals := 0 } : Room) s m args below meth c H locs 0 0 Z (F0 m 14 ls []) := by
    intro _ hf H locs ls hR hS hl
    unfold f14_isIn_j14 at hf
    refine lv_iconst (v := 0) hx hb dX14_isIn_14 li_0 ?_
    obtain rfl := some_i hf
    exact hend _ _ _ _ dX14_isIn_15 nz_0 hR hS
  refine lv_icmp_lt (tgt := 14) hx hb dX14_isIn_2 (by decide) (fun c1 => ?_) (fun c1 => ?_)
  · have hf := ite_t c1 hf
    exact hj14 () hf _ _ _ hR hS (lv_sub hl [] rfl)
  · have hf := ite_f c1 hf
    refine lv_iload_n hx hb dX14_isIn_5 rfl (lv_at hl 0 rfl) ?_
    refine lv_iload_n hx hb dX14_isIn_6 rfl (lv_at hl 2 rfl) ?_
    refine lv_icmp_gt (tgt := 14) hx hb dX14_isIn_7 (by decide) (fun c2 => ?_) (fun c2 => ?_)
    · have hf := ite_t c2 hf
      exact hj14 () hf _ _ _ hR hS (lv_sub hl [] rfl)
    · have hf := ite_f c2 hf
      refine lv_iconst (v := 1) hx hb dX14_isIn_10 li_1 ?_
      refine lv_goto (tgt := 15) hx hb dX14_isIn_11 (by decide) ?_
      obtain rfl := some_i hf
      exact hend _ _ _ _ dX14_isIn_15 nz_1 hR hS
noncomputable def f14_has (p1 : Int32) (p2 : Int32) : Option (Int32) :=
  lt (p1 >>> (p2 &&& 31)) fun v1 =>
  lt (v1 &&& (1 : Int32)) fun v2 =>
  if v2 = (1 : Int32) then
    some (1 : Int32)
  else
    some (0 : Int32)
set_option maxHeartbeats 4000000 in
theorem m14_has (l : Launch) (G : gG) (K : gK) (I : gI) (J : gJ) (X : gX) (A : gI) (B : gJ) (Q : gX)  (p1 : Int32) (p2 : Int32)   (out : Int32) (hf : f14_has p1 p2 = some out) : GMet l yX14_has cX14_has 2 (some .boolean) (0) (0) G [.int p1, .int p2] K I J X A B Q (some (.int out)) K I J X A B Q 0 0 := by
  refine GMet.of (y := yX14_has) rfl (Nat.le_of_ble_eq_true rfl) rfl ?_
  intro p e s m below meth c ls hx hb hr hml hlocks hts hown hname hG hR hl
  have hown : s.vm.findClass RX14 = some m.cls := hown
  have hR : RS G K I J X A B Q s.heap := hR.to rfl rfl rfl rfl rfl rfl
  have hS : va_S (gA G) s.heap s.heap [] := va_S.rf
  have hend : ∀ (pc : Nat) (H : Heap) (locs : List Loc) (ls : Array Slot), decode cX14_has pc = .ok (.ireturn, 1) → narrow .boolean (.int out) = .int out → RS G K I J X A B Q H → va_S (gA G) s.heap H locs → W p l e ({ frames := 0, cells := 0, slots := 0, locals := 0 } : Room) s m ([.int p1, .int p2] : List Value).toArray below meth c H locs 0 0 (MQ below (gQ G (some (.int out)) K I J X A B Q) ([.int p1, .int p2] : List Value).toArray s 0 0 (gA G)) (F0 m pc ls [.int out]) := fun pc H locs ls hd hz hR hS => g_zret hx hb hr hlocks hz hG hR hS rfl hd
  generalize MQ below (gQ G (some (.int out)) K I J X A B Q) ([.int p1, .int p2] : List Value).toArray s 0 0 (gA G) = Z at hend ⊢
  generalize ([.int p1, .int p2] : List Value).toArray = args at hts hend ⊢
  unfold f14_has at hf
  refine lv_iload_n hx hb dX14_has_0 rfl (lv_at hl 0 rfl) ?_
  refine lv_iload_n hx hb dX14_has_1 rfl (lv_at hl 1 rfl) ?_
  obtain ⟨v1, ev1, hf⟩ := lt_some hf
  refine n_ishr hx hb ev1 dX14_has_2 ?_
  refine lv_iconst (v := 1) hx hb dX14_has_3 li_1 ?_
  obtain ⟨v2, ev2, hf⟩ := lt_some hf
  refine n_iand hx hb ev2 dX14_has_4 ?_
  refine lv_iconst (v := 1) hx hb dX14_has_5 li_1 ?_
  refine lv_icmp_ne (tgt := 13) hx hb dX14_has_6 (by decide) (fun c3 => ?_) (fun c3 => ?_)
  · have hf := ite_f c3 hf
    refine lv_iconst (v := 0) hx hb dX14_has_13 li_0 ?_
    obtain rfl := some_i hf
    exact hend _ _ _ _ dX14_has_14 nz_0 hR hS
  · have hf := ite_t c3 hf
    refine lv_iconst (v := 1) hx hb dX14_has_9 li_1 ?_
    refine lv_goto (tgt := 14) hx hb dX14_has_10 (by decide) ?_
    obtain rfl := some_i hf
    exact hend _ _ _ _ dX14_has_14 nz_1 hR hS
noncomputable def f14_isSign_j20  : Option (Int32) :=
  some (0 : Int32)

noncomputable def f14_isSign (p1 : Int32) (i_kind : Int32) (i_sign : Int32) : Option (Int32) :=
  if i_kind = (4 : Int32) then
    if i_sign = p1 then
      some (1 : Int32)
    else
      f14_isSign_j20
  else
    f14_isSign_j20
set_option maxHeartbeats 4000000 in
theorem m14_isSign (l : Launch) (G : gG) (K : gK) (I : gI) (J : gJ) (X : gX) (A : gI) (B : gJ) (Q : gX) (o : Nat) (shM : Sh K X o 11 rows11) (p1 : Int32) (i_kind : Int32) (i_sign : Int32) (e_i_kind : I 1107 o = i_kind) (e_i_sign : I 1109 o = i_sign) (out : Int32) (hf : f14_isSign p1 i_kind i_sign = some out) : GMet l yX14_isSign cX14_isSign 2 (some .boolean) (0) (0) G [.ref o, .int p1] K I J X A B Q (some (.int out)) K I J X A B Q 0 0 := by
  refine GMet.of (y := yX14_isSign) rfl (Nat.le_of_ble_eq_true rfl) rfl ?_
  intro p e s m below meth c ls hx hb hr hml hlocks hts hown hname hG hR hl
  have hown : s.vm.findClass RX14 = some m.cls := hown
  have hR : RS G K I J X A B Q s.heap := hR.to rfl rfl rfl rfl rfl rfl
  have hS : va_S (gA G) s.heap s.heap [] := va_S.rf
  have hend : ∀ (pc : Nat) (H : Heap) (locs : List Loc) (ls : Array Slot), decode cX14_isSign pc = .ok (.ireturn, 1) → narrow .boolean (.int out) = .int out → RS G K I J X A B Q H → va_S (gA G) s.heap H locs → W p l e ({ frames := 0, cells := 0, slots := 0, locals := 0 } : Room) s m ([.ref o, .int p1] : List Value).toArray below meth c H locs 0 0 (MQ below (gQ G (some (.int out)) K I J X A B Q) ([.ref o, .int p1] : List Value).toArray s 0 0 (gA G)) (F0 m pc ls [.int out]) := fun pc H locs ls hd hz hR hS => g_zret hx hb hr hlocks hz hG hR hS rfl hd
  generalize MQ below (gQ G (some (.int out)) K I J X A B Q) ([.ref o, .int p1] : List Value).toArray s 0 0 (gA G) = Z at hend ⊢
  generalize ([.ref o, .int p1] : List Value).toArray = args at hts hend ⊢
  unfold f14_isSign at hf
  refine lv_aload_n hx hb dX14_isSign_0 rfl (lv_at hl 0 rfl) ?_
  refine n_geti (v := i_kind) hx hb hts hown hG hR gFi_X14_170_11 shM.1 e_i_kind dX14_isSign_1 ?_
  refine lv_iconst (v := 4) hx hb dX14_isSign_4 li_4 ?_
  have hj20 : ∀ (_ : Unit), f14_isSign_j20 = some out → ∀ (H : Heap) (locs : List Loc) (ls : Array Slot), RS G K I J X A B Q H → va_S (gA G) s.heap H locs → lv_has ls 2 [(0, .ref o)] → W p l e ({ frames := 0, cells := 0, slots := 0, locals := 0 } : Room) s m args below meth c H locs 0 0 Z (F0 m 20 ls []) := by
    intro _ hf H locs ls hR hS hl
    unfold f14_isSign_j20 at hf
    refine lv_iconst (v := 0) hx hb dX14_isSign_20 li_0 ?_
    obtain rfl := some_i hf
    exact hend _ _ _ _ dX14_isSign_21 nz_0 hR hS
  refine lv_icmp_ne (tgt := 20) hx hb dX14_isSign_5 (by decide) (fun c1 => ?_) (fun c1 => ?_)
  · have hf := ite_f c1 hf
    exact hj20 () hf _ _ _ hR hS (lv_sub hl [0] rfl)
  · have hf := ite_t c1 hf
    refine lv_aload_n hx hb dX14_isSign_8 rfl (lv_at hl 0 rfl) ?_
    refine n_geti (v := i_sign) hx hb hts hown hG hR gFi_X14_180_11 shM.1 e_i_sign dX14_isSign_9 ?_
    refine lv_iload_n hx hb dX14_isSign_12 rfl (lv_at hl 1 rfl) ?_
    refine lv_icmp_ne (tgt := 20) hx hb dX14_isSign_13 (by decide) (fun c2 => ?_) (fun c2 => ?_)
    · have hf := ite_f c2 hf
      exact hj20 () hf _ _ _ hR hS (lv_sub hl [0] rfl)
    · have hf := ite_t c2 hf
      refine lv_iconst (v := 1) hx hb dX14_isSign_16 li_1 ?_
      refine lv_goto (tgt := 21) hx hb dX14_isSign_17 (by decide) ?_
      obtain rfl := some_i hf
      exact hend _ _ _ _ dX14_isSign_21 nz_1 hR hS
noncomputable def f14_fault (i_thrown : Int32) (i_fault : Int32) : Option (Int32 × Int32) :=
  some (i_fault, (0 : Int32))
set_option maxHeartbeats 4000000 in
theorem m14_fault (l : Launch) (G : gG) (K : gK) (I : gI) (J : gJ) (X : gX) (A : gI) (B : gJ) (Q : gX) (o : Nat) (shM : Sh K X o 11 rows11)  (i_thrown : Int32) (i_fault : Int32) (e_i_thrown : I 1100 o = i_thrown) (e_i_fault : I 1110 o = i_fault) (out : Int32 × Int32) (hf : f14_fault i_thrown i_fault = some out) : GMet l yX14_fault cX14_fault 1 (some .int) (0) (0) G [.ref o] K I J X A B Q (some (.int out.1)) K (ov I [(1100, o, out.2)]) J X A B Q 0 0 := by
  refine GMet.of (y := yX14_fault) rfl (Nat.le_of_ble_eq_true rfl) rfl ?_
  intro p e s m below meth c ls hx hb hr hml hlocks hts hown hname hG hR hl
  have hown : s.vm.findClass RX14 = some m.cls := hown
  have hR : RS G K (ov I [(1100, o, i_thrown)]) J X A B Q s.heap := hR.to (Eq.symm (ov_sc e_i_thrown rfl)) rfl rfl rfl rfl rfl
  have hS : va_S (gA G) s.heap s.heap [] := va_S.rf
  have hend : ∀ (pc : Nat) (H : Heap) (locs : List Loc) (ls : Array Slot), decode cX14_fault pc = .ok (.ireturn, 1) → RS G K (ov I [(1100, o, out.2)]) J X A B Q H → va_S (gA G) s.heap H locs → W p l e ({ frames := 0, cells := 0, slots := 0, locals := 0 } : Room) s m ([.ref o] : List Value).toArray below meth c H locs 0 0 (MQ below (gQ G (some (.int out.1)) K (ov I [(1100, o, out.2)]) J X A B Q) ([.ref o] : List Value).toArray s 0 0 (gA G)) (F0 m pc ls [.int out.1]) := fun pc H locs ls hd hR hS => g_iret hx hb hr hlocks hG hR hS rfl hd
  generalize MQ below (gQ G (some (.int out.1)) K (ov I [(1100, o, out.2)]) J X A B Q) ([.ref o] : List Value).toArray s 0 0 (gA G) = Z at hend ⊢
  generalize ([.ref o] : List Value).toArray = args at hts hend ⊢
  unfold f14_fault at hf
  refine lv_aload_n hx hb dX14_fault_0 rfl (lv_at hl 0 rfl) ?_
  refine lv_iconst (v := 0) hx hb dX14_fault_1 li_0 ?_
  refine n_puti (li' := [(1100, o, (0 : Int32))]) hx hb hts hown hG hR hS gPi_X14_148_11 shM.1 0 rfl rfl rfl dX14_fault_2 (fun H locs hR hS => ?_)
  refine lv_aload_n hx hb dX14_fault_5 rfl (lv_at hl 0 rfl) ?_
  refine n_geti (v := i_fault) hx hb hts hown hG hR gFi_X14_210_11 shM.1 ((congrFun (ov_no rfl) _).trans e_i_fault) dX14_fault_6 ?_
  obtain rfl := some_i hf
  exact hend _ _ _ _ dX14_fault_9 hR hS
noncomputable def f14_men (a_now : Nat → Int32) : Option (Int32) :=
  gd (inb (0 : Int32) 800) <|
  lt (a_now (0 : Int32).toNatClampNeg) fun v2 =>
  some v2
set_option maxHeartbeats 4000000 in
theorem m14_men (l : Launch) (G : gG) (K : gK) (I : gI) (J : gJ) (X : gX) (A : gI) (B : gJ) (Q : gX) (o : Nat) (shM : Sh K X o 11 rows11)  (a_now : Nat → Int32) (e_a_now : A (o + 2) = a_now) (out : Int32) (hf : f14_men a_now = some out) : GMet l yX14_men cX14_men 1 (some .int) (0) (0) G [.ref o] K I J X A B Q (some (.int out)) K I J X A B Q 0 0 := by
  refine GMet.of (y := yX14_men) rfl (Nat.le_of_ble_eq_true rfl) rfl ?_
  intro p e s m below meth c ls hx hb hr hml hlocks hts hown hname hG hR hl
  have hown : s.vm.findClass RX14 = some m.cls := hown
  have k_a_now : K (o + 2) = some (.inr (0, 800)) := (shM.2 1 _ rfl).1
  have hR : RS G K I J X A B Q s.heap := hR.to rfl rfl rfl rfl rfl rfl
  have hS : va_S (gA G) s.heap s.heap [] := va_S.rf
  have hend : ∀ (pc : Nat) (H : Heap) (locs : List Loc) (ls : Array Slot), decode cX14_men pc = .ok (.ireturn, 1) → RS G K I J X A B Q H → va_S (gA G) s.heap H locs → W p l e ({ frames := 0, cells := 0, slots := 0, locals := 0 } : Room) s m ([.ref o] : List Value).toArray below meth c H locs 0 0 (MQ below (gQ G (some (.int out)) K I J X A B Q) ([.ref o] : List Value).toArray s 0 0 (gA G)) (F0 m pc ls [.int out]) := fun pc H locs ls hd hR hS => g_iret hx hb hr hlocks hG hR hS rfl hd
  generalize MQ below (gQ G (some (.int out)) K I J X A B Q) ([.ref o] : List Value).toArray s 0 0 (gA G) = Z at hend ⊢
  generalize ([.ref o] : List Value).toArray = args at hts hend ⊢
  unfold f14_men at hf
  refine lv_aload_n hx hb dX14_men_0 rfl (lv_at hl 0 rfl) ?_
  refine g_getr (b := (o + 2)) hx hb hts hown hG hR gFx_X14_13_11 shM.1 ((shM.2 1 _ rfl).2) dX14_men_1 ?_
  refine lv_iconst (v := 0) hx hb dX14_men_4 li_0 ?_
  obtain ⟨c1, hf⟩ := gd_some hf
  obtain ⟨v2, ev2, hf⟩ := lt_some hf
  refine n_iald (x := a_now) hx hb hG hR k_a_now c1 e_a_now ev2 dX14_men_5 ?_
  obtain rfl := some_i hf
  exact hend _ _ _ _ dX14_men_6 hR hS
noncomputable def f14_refuse (i_thrown : Int32) : Option (Int32 × Int32) :=
  some ((0 : Int32), (1 : Int32))
set_option maxHeartbeats 4000000 in
theorem m14_refuse (l : Launch) (G : gG) (K : gK) (I : gI) (J : gJ) (X : gX) (A : gI) (B : gJ) (Q : gX) (o : Nat) (shM : Sh K X o 11 rows11)  (i_thrown : Int32) (e_i_thrown : I 1100 o = i_thrown) (out : Int32 × Int32) (hf : f14_refuse i_thrown = some out) : GMet l yX14_refuse cX14_refuse 1 (some .int) (0) (0) G [.ref o] K I J X A B Q (some (.int out.1)) K (ov I [(1100, o, out.2)]) J X A B Q 0 0 := by
  refine GMet.of (y := yX14_refuse) rfl (Nat.le_of_ble_eq_true rfl) rfl ?_
  intro p e s m below meth c ls hx hb hr hml hlocks hts hown hname hG hR hl
  have hown : s.vm.findClass RX14 = some m.cls := hown
  have hR : RS G K (ov I [(1100, o, i_thrown)]) J X A B Q s.heap := hR.to (Eq.symm (ov_sc e_i_thrown rfl)) rfl rfl rfl rfl rfl
  have hS : va_S (gA G) s.heap s.heap [] := va_S.rf
  have hend : ∀ (pc : Nat) (H : Heap) (locs : List Loc) (ls : Array Slot), decode cX14_refuse pc = .ok (.ireturn, 1) → RS G K (ov I [(1100, o, out.2)]) J X A B Q H → va_S (gA G) s.heap H locs → W p l e ({ frames := 0, cells := 0, slots := 0, locals := 0 } : Room) s m ([.ref o] : List Value).toArray below meth c H locs 0 0 (MQ below (gQ G (some (.int out.1)) K (ov I [(1100, o, out.2)]) J X A B Q) ([.ref o] : List Value).toArray s 0 0 (gA G)) (F0 m pc ls [.int out.1]) := fun pc H locs ls hd hR hS => g_iret hx hb hr hlocks hG hR hS rfl hd
  generalize MQ below (gQ G (some (.int out.1)) K (ov I [(1100, o, out.2)]) J X A B Q) ([.ref o] : List Value).toArray s 0 0 (gA G) = Z at hend ⊢
  generalize ([.ref o] : List Value).toArray = args at hts hend ⊢
  unfold f14_refuse at hf
  refine lv_aload_n hx hb dX14_refuse_0 rfl (lv_at hl 0 rfl) ?_
  refine lv_iconst (v := 1) hx hb dX14_refuse_1 li_1 ?_
  refine n_puti (li' := [(1100, o, (1 : Int32))]) hx hb hts hown hG hR hS gPi_X14_148_11 shM.1 0 rfl rfl rfl dX14_refuse_2 (fun H locs hR hS => ?_)
  refine lv_iconst (v := 0) hx hb dX14_refuse_5 li_0 ?_
  obtain rfl := some_i hf
  exact hend _ _ _ _ dX14_refuse_6 hR hS
noncomputable def f14_manOf (p1 : Int32) (p2 : Int32) (a_now : Nat → Int32) : Option (Int32) :=
  lt ((3 : Int32) * p1) fun v1 =>
  lt ((20 : Int32) + v1) fun v2 =>
  lt (v2 + p2) fun v3 =>
  gd (inb v3 800) <|
  lt (a_now v3.toNatClampNeg) fun v5 =>
  some v5
set_option maxHeartbeats 4000000 in
theorem m14_manOf (l : Launch) (G : gG) (K : gK) (I : gI) (J : gJ) (X : gX) (A : gI) (B : gJ) (Q : gX) (o : Nat) (shM : Sh K X o 11 rows11) (p1 : Int32) (p2 : Int32) (a_now : Nat → Int32) (e_a_now : A (o + 2) = a_now) (out : Int32) (hf : f14_manOf p1 p2 a_now = some out) : GMet l yX14_manOf cX14_manOf 3 (some .int) (0) (0) G [.ref o, .int p1, .int p2] K I J X A B Q (some (.int out)) K I J X A B Q 0 0 := by
  refine GMet.of (y := yX14_manOf) rfl (Nat.le_of_ble_eq_true rfl) rfl ?_
  intro p e s m below meth c ls hx hb hr hml hlocks hts hown hname hG hR hl
  have hown : s.vm.findClass RX14 = some m.cls := hown
  have k_a_now : K (o + 2) = some (.inr (0, 800)) := (shM.2 1 _ rfl).1
  have hR : RS G K I J X A B Q s.heap := hR.to rfl rfl rfl rfl rfl rfl
  have hS : va_S (gA G) s.heap s.heap [] := va_S.rf
  have hend : ∀ (pc : Nat) (H : Heap) (locs : List Loc) (ls : Array Slot), decode cX14_manOf pc = .ok (.ireturn, 1) → RS G K I J X A B Q H → va_S (gA G) s.heap H locs → W p l e ({ frames := 0, cells := 0, slots := 0, locals := 0 } : Room) s m ([.ref o, .int p1, .int p2] : List Value).toArray below meth c H locs 0 0 (MQ below (gQ G (some (.int out)) K I J X A B Q) ([.ref o, .int p1, .int p2] : List Value).toArray s 0 0 (gA G)) (F0 m pc ls [.int out]) := fun pc H locs ls hd hR hS => g_iret hx hb hr hlocks hG hR hS rfl hd
  generalize MQ below (gQ G (some (.int out)) K I J X A B Q) ([.ref o, .int p1, .int p2] : List Value).toArray s 0 0 (gA G) = Z at hend ⊢
  generalize ([.ref o, .int p1, .int p2] : List Value).toArray = args at hts hend ⊢
  unfold f14_manOf at hf
  refine lv_aload_n hx hb dX14_manOf_0 rfl (lv_at hl 0 rfl) ?_
  refine g_getr (b := (o + 2)) hx hb hts hown hG hR gFx_X14_13_11 shM.1 ((shM.2 1 _ rfl).2) dX14_manOf_1 ?_
  refine lv_bipush (v := 20) hx hb dX14_manOf_4 lb_20 ?_
  refine lv_iconst (v := 3) hx hb dX14_manOf_6 li_3 ?_
  refine lv_iload_n hx hb dX14_manOf_7 rfl (lv_at hl 1 rfl) ?_
  obtain ⟨v1, ev1, hf⟩ := lt_some hf
  refine n_imul hx hb ev1 dX14_manOf_8 ?_
  obtain ⟨v2, ev2, hf⟩ := lt_some hf
  refine n_iadd hx hb ev2 dX14_manOf_9 ?_
  refine lv_iload_n hx hb dX14_manOf_10 rfl (lv_at hl 2 rfl) ?_
  obtain ⟨v3, ev3, hf⟩ := lt_some hf
  refine n_iadd hx hb ev3 dX14_manOf_11 ?_
  obtain ⟨c4, hf⟩ := gd_some hf
  obtain ⟨v5, ev5, hf⟩ := lt_some hf
  refine n_iald (x := a_now) hx hb hG hR k_a_now c4 e_a_now ev5 dX14_manOf_12 ?_
  obtain rfl := some_i hf
  exact hend _ _ _ _ dX14_manOf_13 hR hS
noncomputable def f14_columns (a_now : Nat → Int32) : Option (Int32) :=
  gd (inb (9 : Int32) 800) <|
  lt (a_now (9 : Int32).toNatClampNeg) fun v2 =>
  some v2
set_option maxHeartbeats 4000000 in
theorem m14_columns (l : Launch) (G : gG) (K : gK) (I : gI) (J : gJ) (X : gX) (A : gI) (B : gJ) (Q : gX) (o : Nat) (shM : Sh K X o 11 rows11)  (a_now : Nat → Int32) (e_a_now : A (o + 2) = a_now) (out : Int32) (hf : f14_columns a_now = some out) : GMet l yX14_columns cX14_columns 1 (some .int) (0) (0) G [.ref o] K I J X A B Q (some (.int out)) K I J X A B Q 0 0 := by
  refine GMet.of (y := yX14_columns) rfl (Nat.le_of_ble_eq_true rfl) rfl ?_
  intro p e s m below meth c ls hx hb hr hml hlocks hts hown hname hG hR hl
  have hown : s.vm.findClass RX14 = some m.cls := hown
  have k_a_now : K (o + 2) = some (.inr (0, 800)) := (shM.2 1 _ rfl).1
  have hR : RS G K I J X A B Q s.heap := hR.to rfl rfl rfl rfl rfl rfl
  have hS : va_S (gA G) s.heap s.heap [] := va_S.rf
  have hend : ∀ (pc : Nat) (H : Heap) (locs : List Loc) (ls : Array Slot), decode cX14_columns pc = .ok (.ireturn, 1) → RS G K I J X A B Q H → va_S (gA G) s.heap H locs → W p l e ({ frames := 0, cells := 0, slots := 0, locals := 0 } : Room) s m ([.ref o] : List Value).toArray below meth c H locs 0 0 (MQ below (gQ G (some (.int out)) K I J X A B Q) ([.ref o] : List Value).toArray s 0 0 (gA G)) (F0 m pc ls [.int out]) := fun pc H locs ls hd hR hS => g_iret hx hb hr hlocks hG hR hS rfl hd
  generalize MQ below (gQ G (some (.int out)) K I J X A B Q) ([.ref o] : List Value).toArray s 0 0 (gA G) = Z at hend ⊢
  generalize ([.ref o] : List Value).toArray = args at hts hend ⊢
  unfold f14_columns at hf
  refine lv_aload_n hx hb dX14_columns_0 rfl (lv_at hl 0 rfl) ?_
  refine g_getr (b := (o + 2)) hx hb hts hown hG hR gFx_X14_13_11 shM.1 ((shM.2 1 _ rfl).2) dX14_columns_1 ?_
  refine lv_bipush (v := 9) hx hb dX14_columns_4 lb_9 ?_
  obtain ⟨c1, hf⟩ := gd_some hf
  obtain ⟨v2, ev2, hf⟩ := lt_some hf
  refine n_iald (x := a_now) hx hb hG hR k_a_now c1 e_a_now ev2 dX14_columns_6 ?_
  obtain rfl := some_i hf
  exact hend _ _ _ _ dX14_columns_7 hR hS
noncomputable def f14_start_e3_0 (p1 : Int32) (p2 : Int32) (a_now : Nat → Int32) (v2 : Int32) (x3_0 : (Nat → Int32) × (Nat → Int32) × (Nat → Int32) × (Nat → Int32) × (Nat → Int32) × (Nat → Int32)) : Option (Int32 × Int32 × Int32 × Int32 × Int32 × Int32 × Int32 × Int32 × Int32 × (Nat → Int32) × (Nat → Int32) × (Nat → Int32) × (Nat → Int32) × (Nat → Int32) × (Nat → Int32)) :=
  if p1 = (2 : Int32) then
    gd (inb (2 : Int32) 800) <|
    lt (a_now (2 : Int32).toNatClampNeg) fun v6 =>
    if p2 ≤ v6 then
      some (p2, p1, (0 : Int32), v2, (0 : Int32), (0 : Int32), (0 : Int32), (0 : Int32), (0 : Int32), x3_0.1, x3_0.2.1, x3_0.2.2.1, x3_0.2.2.2.1, x3_0.2.2.2.2.1, x3_0.2.2.2.2.2)
    else
      gd (inb (2 : Int32) 800) <|
      lt (a_now (2 : Int32).toNatClampNeg) fun v9 =>
      some (v9, p1, (0 : Int32), v2, (0 : Int32), (0 : Int32), (0 : Int32), (0 : Int32), (0 : Int32), x3_0.1, x3_0.2.1, x3_0.2.2.1, x3_0.2.2.2.1, x3_0.2.2.2.2.1, x3_0.2.2.2.2.2)
  else
    some (p2, p1, (0 : Int32), v2, (0 : Int32), (0 : Int32), (0 : Int32), (0 : Int32), (0 : Int32), x3_0.1, x3_0.2.1, x3_0.2.2.1, x3_0.2.2.2.1, x3_0.2.2.2.2.1, x3_0.2.2.2.2.2)

noncomputable def f14_start_s3 (w3_3 : Int32) (w3_a_rest : Nat → Int32) (w3_a_load : Nat → Int32) (w3_a_done : Nat → Int32) (w3_a_waits : Nat → Int32) (w3_a_most : Nat → Int32) (w3_a_state : Nat → Int32) : Option ((Int32 × (Nat → Int32) × (Nat → Int32) × (Nat → Int32) × (Nat → Int32) × (Nat → Int32) × (Nat → Int32)) ⊕ ((Nat → Int32) × (Nat → Int32) × (Nat → Int32) × (Nat → Int32) × (Nat → Int32) × (Nat → Int32))) :=
  if (12 : Int32) ≤ w3_3 then
    some (.inr (w3_a_rest, w3_a_load, w3_a_done, w3_a_waits, w3_a_most, w3_a_state))
  else
    gd (inb w3_3 12) <|
    lt (upd w3_a_rest w3_3.toNatClampNeg (0 : Int32)) fun u12 =>
    gd (inb w3_3 12) <|
    lt (upd w3_a_load w3_3.toNatClampNeg (0 : Int32)) fun u14 =>
    gd (inb w3_3 12) <|
    lt (upd w3_a_done w3_3.toNatClampNeg (0 : Int32)) fun u16 =>
    gd (inb w3_3 12) <|
    lt (upd w3_a_waits w3_3.toNatClampNeg (0 : Int32)) fun u18 =>
    gd (inb w3_3 12) <|
    lt (upd w3_a_most w3_3.toNatClampNeg (0 : Int32)) fun u20 =>
    gd (inb w3_3 12) <|
    lt (upd w3_a_state w3_3.toNatClampNeg (0 : Int32)) fun u22 =>
    lt (w3_3 + (1 : Int32)) fun v23 =>
    some (.inl (v23, u12, u14, u16, u18, u20, u22))

noncomputable def f14_start (p1 : Int32) (p2 : Int32) (i_teamMany : Int32) (i_teamKind : Int32) (i_tick : Int32) (i_empty : Int32) (i_away : Int32) (i_litresThrown : Int32) (i_spilt : Int32) (i_pailsThrown : Int32) (i_drawn : Int32) (a_now : Nat → Int32) (a_rest : Nat → Int32) (a_load : Nat → Int32) (a_done : Nat → Int32) (a_waits : Nat → Int32) (a_most : Nat → Int32) (a_state : Nat → Int32) : Option (Int32 × Int32 × Int32 × Int32 × Int32 × Int32 × Int32 × Int32 × Int32 × (Nat → Int32) × (Nat → Int32) × (Nat → Int32) × (Nat → Int32) × (Nat → Int32) × (Nat → Int32)) :=
  gd (inb (2 : Int32) 800) <|
  lt (a_now (2 : Int32).toNatClampNeg) fun v2 =>
  (whl (fun (s3 : Int32 × (Nat → Int32) × (Nat → Int32) × (Nat → Int32) × (Nat → Int32) × (Nat → Int32) × (Nat → Int32)) => f14_start_s3 s3.1 s3.2.1 s3.2.2.1 s3.2.2.2.1 s3.2.2.2.2.1 s3.2.2.2.2.2.1 s3.2.2.2.2.2.2) FU ((0 : Int32), a_rest, a_load, a_done, a_waits, a_most, a_state)).bind fun rl3 =>
  f14_start_e3_0 p1 p2 a_now v2 rl3
set_option maxHeartbeats 4000000 in
theorem m14_start (l : Launch) (G : gG) (K : gK) (I : gI) (J : gJ) (X : gX) (A : gI) (B : gJ) (Q : gX) (o : Nat) (shM : Sh K X o 11 rows11) (p1 : Int32) (p2 : Int32) (i_teamMany : Int32) (i_teamKind : Int32) (i_tick : Int32) (i_empty : Int32) (i_away : Int32) (i_litresThrown : Int32) (i_spilt : Int32) (i_pailsThrown : Int32) (i_drawn : Int32) (a_now : Nat → Int32) (a_rest : Nat → Int32) (a_load : Nat → Int32) (a_done : Nat → Int32) (a_waits : Nat → Int32) (a_most : Nat → Int32) (a_state : Nat → Int32) (e_i_teamMany : I 1133 o = i_teamMany) (e_i_teamKind : I 1134 o = i_teamKind) (e_i_tick : I 1136 o = i_tick) (e_i_empty : I 1137 o = i_empty) (e_i_away : I 1138 o = i_away) (e_i_litresThrown : I 1139 o = i_litresThrown) (e_i_spilt : I 1140 o = i_spilt) (e_i_pailsThrown : I 1141 o = i_pailsThrown) (e_i_drawn : I 1142 o = i_drawn) (e_a_now : A (o + 2) = a_now) (e_a_rest : A (o + 11) = a_rest) (e_a_load : A (o + 12) = a_load) (e_a_done : A (o + 13) = a_done) (e_a_waits : A (o + 15) = a_waits) (e_a_most : A (o + 16) = a_most) (e_a_state : A (o + 18) = a_state) (out : Int32 × Int32 × Int32 × Int32 × Int32 × Int32 × Int32 × Int32 × Int32 × (Nat → Int32) × (Nat → Int32) × (Nat → Int32) × (Nat → Int32) × (Nat → Int32) × (Nat → Int32)) (hf : f14_start p1 p2 i_teamMany i_teamKind i_tick i_empty i_away i_litresThrown i_spilt i_pailsThrown i_drawn a_now a_rest a_load a_done a_waits a_most a_state = some out) : GMet l yX14_start cX14_start 4 none (0) (0) G [.ref o, .int p1, .int p2] K I J X A B Q none K (ov I [(1133, o, out.1), (1134, o, out.2.1), (1136, o, out.2.2.1), (1137, o, out.2.2.2.1), (1138, o, out.2.2.2.2.1), (1139, o, out.2.2.2.2.2.1), (1140, o, out.2.2.2.2.2.2.1), (1141, o, out.2.2.2.2.2.2.2.1), (1142, o, out.2.2.2.2.2.2.2.2.1)]) J X (ova A [((o + 2), a_now), ((o + 11), out.2.2.2.2.2.2.2.2.2.1), ((o + 12), out.2.2.2.2.2.2.2.2.2.2.1), ((o + 13), out.2.2.2.2.2.2.2.2.2.2.2.1), ((o + 15), out.2.2.2.2.2.2.2.2.2.2.2.2.1), ((o + 16), out.2.2.2.2.2.2.2.2.2.2.2.2.2.1), ((o + 18), out.2.2.2.2.2.2.2.2.2.2.2.2.2.2)]) B Q 0 0 := by
  refine GMet.of (y := yX14_start) rfl (Nat.le_of_ble_eq_true rfl) rfl ?_
  intro p e s m below meth c ls hx hb hr hml hlocks hts hown hname hG hR hl
  have hown : s.vm.findClass RX14 = some m.cls := hown
  have k_a_now : K (o + 2) = some (.inr (0, 800)) := (shM.2 1 _ rfl).1
  have k_a_rest : K (o + 11) = some (.inr (0, 12)) := (shM.2 10 _ rfl).1
  have k_a_load : K (o + 12) = some (.inr (0, 12)) := (shM.2 11 _ rfl).1
  have k_a_done : K (o + 13) = some (.inr (0, 12)) := (shM.2 12 _ rfl).1
  have k_a_waits : K (o + 15) = some (.inr (0, 12)) := (shM.2 14 _ rfl).1
  have k_a_most : K (o + 16) = some (.inr (0, 12)) := (shM.2 15 _ rfl).1
  have k_a_state : K (o + 18) = some (.inr (0, 12)) := (shM.2 17 _ rfl).1
  have hN_A : nda [(o + 2), (o + 11), (o + 12), (o + 13), (o + 15), (o + 16), (o + 18)] := nd_off o [2, 11, 12, 13, 15, 16, 18] rfl
  have hR : RS G K (ov I [(1133, o, i_teamMany), (1134, o, i_teamKind), (1136, o, i_tick), (1137, o, i_empty), (1138, o, i_away), (1139, o, i_litresThrown), (1140, o, i_spilt), (1141, o, i_pailsThrown), (1142, o, i_drawn)]) J X (ova A [((o + 2), a_now), ((o + 11), a_rest), ((o + 12), a_load), ((o + 13), a_done), ((o + 15), a_waits), ((o + 16), a_most), ((o + 18), a_state)]) B Q s.heap := hR.to (Eq.symm (ov_sc e_i_teamMany (ov_sc e_i_teamKind (ov_sc e_i_tick (ov_sc e_i_empty (ov_sc e_i_away (ov_sc e_i_litresThrown (ov_sc e_i_spilt (ov_sc e_i_pailsThrown (ov_sc e_i_drawn rfl)))))))))) rfl rfl (Eq.symm (ova_sc e_a_now (ova_sc e_a_rest (ova_sc e_a_load (ova_sc e_a_done (ova_sc e_a_waits (ova_sc e_a_most (ova_sc e_a_state rfl)))))))) rfl rfl
  have hS : va_S (gA G) s.heap s.heap [] := va_S.rf
  have hend : ∀ (pc : Nat) (H : Heap) (locs : List Loc) (ls : Array Slot), decode cX14_start pc = .ok (.return_, 1) → RS G K (ov I [(1133, o, out.1), (1134, o, out.2.1), (1136, o, out.2.2.1), (1137, o, out.2.2.2.1), (1138, o, out.2.2.2.2.1), (1139, o, out.2.2.2.2.2.1), (1140, o, out.2.2.2.2.2.2.1), (1141, o, out.2.2.2.2.2.2.2.1), (1142, o, out.2.2.2.2.2.2.2.2.1)]) J X (ova A [((o + 2), a_now), ((o + 11), out.2.2.2.2.2.2.2.2.2.1), ((o + 12), out.2.2.2.2.2.2.2.2.2.2.1), ((o + 13), out.2.2.2.2.2.2.2.2.2.2.2.1), ((o + 15), out.2.2.2.2.2.2.2.2.2.2.2.2.1), ((o + 16), out.2.2.2.2.2.2.2.2.2.2.2.2.2.1), ((o + 18), out.2.2.2.2.2.2.2.2.2.2.2.2.2.2)]) B Q H → va_S (gA G) s.heap H locs → W p l e ({ frames := 0, cells := 0, slots := 0, locals := 0 } : Room) s m ([.ref o, .int p1, .int p2] : List Value).toArray below meth c H locs 0 0 (MQ below (gQ G none K (ov I [(1133, o, out.1), (1134, o, out.2.1), (1136, o, out.2.2.1), (1137, o, out.2.2.2.1), (1138, o, out.2.2.2.2.1), (1139, o, out.2.2.2.2.2.1), (1140, o, out.2.2.2.2.2.2.1), (1141, o, out.2.2.2.2.2.2.2.1), (1142, o, out.2.2.2.2.2.2.2.2.1)]) J X (ova A [((o + 2), a_now), ((o + 11), out.2.2.2.2.2.2.2.2.2.1), ((o + 12), out.2.2.2.2.2.2.2.2.2.2.1), ((o + 13), out.2.2.2.2.2.2.2.2.2.2.2.1), ((o + 15), out.2.2.2.2.2.2.2.2.2.2.2.2.1), ((o + 16), out.2.2.2.2.2.2.2.2.2.2.2.2.2.1), ((o + 18), out.2.2.2.2.2.2.2.2.2.2.2.2.2.2)]) B Q) ([.ref o, .int p1, .int p2] : List Value).toArray s 0 0 (gA G)) (F0 m pc ls []) := fun pc H locs ls hd hR hS => g_vret hx hb hr hlocks hG hR hS rfl hd
  generalize MQ below (gQ G none K (ov I [(1133, o, out.1), (1134, o, out.2.1), (1136, o, out.2.2.1), (1137, o, out.2.2.2.1), (1138, o, out.2.2.2.2.1), (1139, o, out.2.2.2.2.2.1), (1140, o, out.2.2.2.2.2.2.1), (1141, o, out.2.2.2.2.2.2.2.1), (1142, o, out.2.2.2.2.2.2.2.2.1)]) J X (ova A [((o + 2), a_now), ((o + 11), out.2.2.2.2.2.2.2.2.2.1), ((o + 12), out.2.2.2.2.2.2.2.2.2.2.1), ((o + 13), out.2.2.2.2.2.2.2.2.2.2.2.1), ((o + 15), out.2.2.2.2.2.2.2.2.2.2.2.2.1), ((o + 16), out.2.2.2.2.2.2.2.2.2.2.2.2.2.1), ((o + 18), out.2.2.2.2.2.2.2.2.2.2.2.2.2.2)]) B Q) ([.ref o, .int p1, .int p2] : List Value).toArray s 0 0 (gA G) = Z at hend ⊢
  generalize ([.ref o, .int p1, .int p2] : List Value).toArray = args at hts hend ⊢
  unfold f14_start at hf
  refine lv_aload_n hx hb dX14_start_0 rfl (lv_at hl 0 rfl) ?_
  refine lv_iload_n hx hb dX14_start_1 rfl (lv_at hl 1 rfl) ?_
  refine n_puti (li' := [(1133, o, i_teamMany), (1134, o, p1), (1136, o, i_tick), (1137, o, i_empty), (1138, o, i_away), (1139, o, i_litresThrown), (1140, o, i_spilt), (1141, o, i_pailsThrown), (1142, o, i_drawn)]) hx hb hts hown hG hR hS gPi_X14_301_11 shM.1 1 rfl rfl rfl dX14_start_2 (fun H locs hR hS => ?_)
  refine lv_aload_n hx hb dX14_start_5 rfl (lv_at hl 0 rfl) ?_
  refine lv_iload_n hx hb dX14_start_6 rfl (lv_at hl 2 rfl) ?_
  refine n_puti (li' := [(1133, o, p2), (1134, o, p1), (1136, o, i_tick), (1137, o, i_empty), (1138, o, i_away), (1139, o, i_litresThrown), (1140, o, i_spilt), (1141, o, i_pailsThrown), (1142, o, i_drawn)]) hx hb hts hown hG hR hS gPi_X14_304_11 shM.1 0 rfl rfl rfl dX14_start_7 (fun H locs hR hS => ?_)
  refine lv_aload_n hx hb dX14_start_10 rfl (lv_at hl 0 rfl) ?_
  refine lv_iconst (v := 0) hx hb dX14_start_11 li_0 ?_
  refine n_puti (li' := [(1133, o, p2), (1134, o, p1), (1136, o, (0 : Int32)), (1137, o, i_empty), (1138, o, i_away), (1139, o, i_litresThrown), (1140, o, i_spilt), (1141, o, i_pailsThrown), (1142, o, i_drawn)]) hx hb hts hown hG hR hS gPi_X14_307_11 shM.1 2 rfl rfl rfl dX14_start_12 (fun H locs hR hS => ?_)
  refine lv_aload_n hx hb dX14_start_15 rfl (lv_at hl 0 rfl) ?_
  refine lv_aload_n hx hb dX14_start_16 rfl (lv_at hl 0 rfl) ?_
  refine g_getr (b := (o + 2)) hx hb hts hown hG hR gFx_X14_13_11 shM.1 ((shM.2 1 _ rfl).2) dX14_start_17 ?_
  refine lv_iconst (v := 2) hx hb dX14_start_20 li_2 ?_
  obtain ⟨c1, hf⟩ := gd_some hf
  obtain ⟨v2, ev2, hf⟩ := lt_some hf
  refine n_iald (x := a_now) hx hb hG hR k_a_now c1 (ova_get 0 hN_A rfl) ev2 dX14_start_21 ?_
  refine n_puti (li' := [(1133, o, p2), (1134, o, p1), (1136, o, (0 : Int32)), (1137, o, v2), (1138, o, i_away), (1139, o, i_litresThrown), (1140, o, i_spilt), (1141, o, i_pailsThrown), (1142, o, i_drawn)]) hx hb hts hown hG hR hS gPi_X14_310_11 shM.1 3 rfl rfl rfl dX14_start_22 (fun H locs hR hS => ?_)
  refine lv_aload_n hx hb dX14_start_25 rfl (lv_at hl 0 rfl) ?_
  refine lv_iconst (v := 0) hx hb dX14_start_26 li_0 ?_
  refine n_puti (li' := [(1133, o, p2), (1134, o, p1), (1136, o, (0 : Int32)), (1137, o, v2), (1138, o, (0 : Int32)), (1139, o, i_litresThrown), (1140, o, i_spilt), (1141, o, i_pailsThrown), (1142, o, i_drawn)]) hx hb hts hown hG hR hS gPi_X14_313_11 shM.1 4 rfl rfl rfl dX14_start_27 (fun H locs hR hS => ?_)
  refine lv_aload_n hx hb dX14_start_30 rfl (lv_at hl 0 rfl) ?_
  refine lv_iconst (v := 0) hx hb dX14_start_31 li_0 ?_
  refine n_puti (li' := [(1133, o, p2), (1134, o, p1), (1136, o, (0 : Int32)), (1137, o, v2), (1138, o, (0 : Int32)), (1139, o, (0 : Int32)), (1140, o, i_spilt), (1141, o, i_pailsThrown), (1142, o, i_drawn)]) hx hb hts hown hG hR hS gPi_X14_316_11 shM.1 5 rfl rfl rfl dX14_start_32 (fun H locs hR hS => ?_)
  refine lv_aload_n hx hb dX14_start_35 rfl (lv_at hl 0 rfl) ?_
  refine lv_iconst (v := 0) hx hb dX14_start_36 li_0 ?_
  refine n_puti (li' := [(1133, o, p2), (1134, o, p1), (1136, o, (0 : Int32)), (1137, o, v2), (1138, o, (0 : Int32)), (1139, o, (0 : Int32)), (1140, o, (0 : Int32)), (1141, o, i_pailsThrown), (1142, o, i_drawn)]) hx hb hts hown hG hR hS gPi_X14_319_11 shM.1 6 rfl rfl rfl dX14_start_37 (fun H locs hR hS => ?_)
  refine lv_aload_n hx hb dX14_start_40 rfl (lv_at hl 0 rfl) ?_
  refine lv_iconst (v := 0) hx hb dX14_start_41 li_0 ?_
  refine n_puti (li' := [(1133, o, p2), (1134, o, p1), (1136, o, (0 : Int32)), (1137, o, v2), (1138, o, (0 : Int32)), (1139, o, (0 : Int32)), (1140, o, (0 : Int32)), (1141, o, (0 : Int32)), (1142, o, i_drawn)]) hx hb hts hown hG hR hS gPi_X14_322_11 shM.1 7 rfl rfl rfl dX14_start_42 (fun H locs hR hS => ?_)
  refine lv_aload_n hx hb dX14_start_45 rfl (lv_at hl 0 rfl) ?_
  refine lv_iconst (v := 0) hx hb dX14_start_46 li_0 ?_
  refine n_puti (li' := [(1133, o, p2), (1134, o, p1), (1136, o, (0 : Int32)), (1137, o, v2), (1138, o, (0 : Int32)), (1139, o, (0 : Int32)), (1140, o, (0 : Int32)), (1141, o, (0 : Int32)), (1142, o, (0 : Int32))]) hx hb hts hown hG hR hS gPi_X14_325_11 shM.1 8 rfl rfl rfl dX14_start_47 (fun H locs hR hS => ?_)
  refine lv_iconst (v := 0) hx hb dX14_start_50 li_0 ?_
  refine lv_istore_n (lv' := [(3, .int (0 : Int32)), (0, .ref o), (1, .int p1), (2, .int p2)]) hx hb dX14_start_51 rfl hl (by decide) rfl (fun ls hl => ?_)
  obtain ⟨rl3, hw3, hfo3⟩ := bind_s hf
  have hx3_0 : ∀ (x3_0 : (Nat → Int32) × (Nat → Int32) × (Nat → Int32) × (Nat → Int32) × (Nat → Int32) × (Nat → Int32)), f14_start_e3_0 p1 p2 a_now v2 x3_0 = some out → ∀ (H : Heap) (locs : List Loc) (ls : Array Slot), RS G K (ov I [(1133, o, p2), (1134, o, p1), (1136, o, (0 : Int32)), (1137, o, v2), (1138, o, (0 : Int32)), (1139, o, (0 : Int32)), (1140, o, (0 : Int32)), (1141, o, (0 : Int32)), (1142, o, (0 : Int32))]) J X (ova A [((o + 2), a_now), ((o + 11), x3_0.1), ((o + 12), x3_0.2.1), ((o + 13), x3_0.2.2.1), ((o + 15), x3_0.2.2.2.1), ((o + 16), x3_0.2.2.2.2.1), ((o + 18), x3_0.2.2.2.2.2)]) B Q H → va_S (gA G) s.heap H locs → lv_has ls 4 [(0, .ref o), (1, .int p1)] → W p l e ({ frames := 0, cells := 0, slots := 0, locals := 0 } : Room) s m args below meth c H locs 0 0 Z (F0 m 106 ls []) := by
    intro x3_0 hf H locs ls hR hS hl
    unfold f14_start_e3_0 at hf
    refine lv_iload_n hx hb dX14_start_106 rfl (lv_at hl 1 rfl) ?_
    refine lv_iconst (v := 2) hx hb dX14_start_107 li_2 ?_
    refine lv_icmp_ne (tgt := 134) hx hb dX14_start_108 (by decide) (fun c4 => ?_) (fun c4 => ?_)
    · have hf := ite_f c4 hf
      obtain rfl := some_i hf
      exact hend _ _ _ _ dX14_start_134 hR hS
    · have hf := ite_t c4 hf
      refine lv_aload_n hx hb dX14_start_111 rfl (lv_at hl 0 rfl) ?_
      refine n_geti (v := p2) hx hb hts hown hG hR gFi_X14_304_11 shM.1 (ov_get 0 rfl rfl) dX14_start_112 ?_
      refine lv_aload_n hx hb dX14_start_115 rfl (lv_at hl 0 rfl) ?_
      refine g_getr (b := (o + 2)) hx hb hts hown hG hR gFx_X14_13_11 shM.1 ((shM.2 1 _ rfl).2) dX14_start_116 ?_
      refine lv_iconst (v := 2) hx hb dX14_start_119 li_2 ?_
      obtain ⟨c5, hf⟩ := gd_some hf
      obtain ⟨v6, ev6, hf⟩ := lt_some hf
      refine n_iald (x := a_now) hx hb hG hR k_a_now c5 (ova_get 0 hN_A rfl) ev6 dX14_start_120 ?_
      refine lv_icmp_le (tgt := 134) hx hb dX14_start_121 (by decide) (fun c7 => ?_) (fun c7 => ?_)
      · have hf := ite_t c7 hf
        obtain rfl := some_i hf
        exact hend _ _ _ _ dX14_start_134 hR hS
      · have hf := ite_f c7 hf
        refine lv_aload_n hx hb dX14_start_124 rfl (lv_at hl 0 rfl) ?_
        refine lv_aload_n hx hb dX14_start_125 rfl (lv_at hl 0 rfl) ?_
        refine g_getr (b := (o + 2)) hx hb hts hown hG hR gFx_X14_13_11 shM.1 ((shM.2 1 _ rfl).2) dX14_start_126 ?_
        refine lv_iconst (v := 2) hx hb dX14_start_129 li_2 ?_
        obtain ⟨c8, hf⟩ := gd_some hf
        obtain ⟨v9, ev9, hf⟩ := lt_some hf
        refine n_iald (x := a_now) hx hb hG hR k_a_now c8 (ova_get 0 hN_A rfl) ev9 dX14_start_130 ?_
        refine n_puti (li' := [(1133, o, v9), (1134, o, p1), (1136, o, (0 : Int32)), (1137, o, v2), (1138, o, (0 : Int32)), (1139, o, (0 : Int32)), (1140, o, (0 : Int32)), (1141, o, (0 : Int32)), (1142, o, (0 : Int32))]) hx hb hts hown hG hR hS gPi_X14_304_11 shM.1 0 rfl rfl rfl dX14_start_131 (fun H locs hR hS => ?_)
        obtain rfl := some_i hf
        exact hend _ _ _ _ dX14_start_134 hR hS
  refine whl_walk (P := fun (s3 : Int32 × (Nat → Int32) × (Nat → Int32) × (Nat → Int32) × (Nat → Int32) × (Nat → Int32) × (Nat → Int32)) => ∀ (H : Heap) (locs : List Loc) (ls : Array Slot), RS G K (ov I [(1133, o, p2), (1134, o, p1), (1136, o, (0 : Int32)), (1137, o, v2), (1138, o, (0 : Int32)), (1139, o, (0 : Int32)), (1140, o, (0 : Int32)), (1141, o, (0 : Int32)), (1142, o, (0 : Int32))]) J X (ova A [((o + 2), a_now), ((o + 11), s3.2.1), ((o + 12), s3.2.2.1), ((o + 13), s3.2.2.2.1), ((o + 15), s3.2.2.2.2.1), ((o + 16), s3.2.2.2.2.2.1), ((o + 18), s3.2.2.2.2.2.2)]) B Q H → va_S (gA G) s.heap H locs → lv_has ls 4 [(0, .ref o), (1, .int p1), (3, .int s3.1)] → W p l e ({ frames := 0, cells := 0, slots := 0, locals := 0 } : Room) s m args below meth c H locs 0 0 Z (F0 m 52 ls [])) (r := rl3) ?_ FU _ hw3 _ _ _ hR hS (lv_sub hl [1, 2, 0] rfl)
  clear hR hS hl hf
  intro s3 o3 hf hk3 H locs ls hR hS hl
  obtain ⟨w3_3, w3_a_rest, w3_a_load, w3_a_done, w3_a_waits, w3_a_most, w3_a_state⟩ := s3
  have hf : f14_start_s3 w3_3 w3_a_rest w3_a_load w3_a_done w3_a_waits w3_a_most w3_a_state = some o3 := hf
  have hR : RS G K (ov I [(1133, o, p2), (1134, o, p1), (1136, o, (0 : Int32)), (1137, o, v2), (1138, o, (0 : Int32)), (1139, o, (0 : Int32)), (1140, o, (0 : Int32)), (1141, o, (0 : Int32)), (1142, o, (0 : Int32))]) J X (ova A [((o + 2), a_now), ((o + 11), w3_a_rest), ((o + 12), w3_a_load), ((o + 13), w3_a_done), ((o + 15), w3_a_waits), ((o + 16), w3_a_most), ((o + 18), w3_a_state)]) B Q H := hR
  have hl : lv_has ls 4 [(0, .ref o), (1, .int p1), (3, .int w3_3)] := hl
  unfold f14_start_s3 at hf
  refine lv_iload_n hx hb dX14_start_52 rfl (lv_at hl 2 rfl) ?_
  refine lv_bipush (v := 12) hx hb dX14_start_53 lb_12 ?_
  refine lv_icmp_ge (tgt := 106) hx hb dX14_start_55 (by decide) (fun c10 => ?_) (fun c10 => ?_)
  · have hf := ite_t c10 hf
    obtain rfl := some_i hf
    replace hk3 : _ = rl3 := hk3
    subst hk3
    exact hx3_0 (w3_a_rest, w3_a_load, w3_a_done, w3_a_waits, w3_a_most, w3_a_state) hfo3 _ _ _ hR hS (lv_sub hl [0, 1] rfl)
  · have hf := ite_f c10 hf
    refine lv_aload_n hx hb dX14_start_58 rfl (lv_at hl 0 rfl) ?_
    refine g_getr (b := (o + 11)) hx hb hts hown hG hR gFx_X14_42_11 shM.1 ((shM.2 10 _ rfl).2) dX14_start_59 ?_
    refine lv_iload_n hx hb dX14_start_62 rfl (lv_at hl 2 rfl) ?_
    refine lv_iconst (v := 0) hx hb dX14_start_63 li_0 ?_
    obtain ⟨c11, hf⟩ := gd_some hf
    obtain ⟨u12, eu12, hf⟩ := lt_some hf
    refine n_iast (la' := [((o + 2), a_now), ((o + 11), u12), ((o + 12), w3_a_load), ((o + 13), w3_a_done), ((o + 15), w3_a_waits), ((o + 16), w3_a_most), ((o + 18), w3_a_state)]) hx hb hG hR hS k_a_rest c11 hN_A 1 rfl eu12 rfl dX14_start_64 (fun H locs hR hS => ?_)
    refine lv_aload_n hx hb dX14_start_65 rfl (lv_at hl 0 rfl) ?_
    refine g_getr (b := (o + 12)) hx hb hts hown hG hR gFx_X14_45_11 shM.1 ((shM.2 11 _ rfl).2) dX14_start_66 ?_
    refine lv_iload_n hx hb dX14_start_69 rfl (lv_at hl 2 rfl) ?_
    refine lv_iconst (v := 0) hx hb dX14_start_70 li_0 ?_
    obtain ⟨c13, hf⟩ := gd_some hf
    obtain ⟨u14, eu14, hf⟩ := lt_some hf
    refine n_iast (la' := [((o + 2), a_now), ((o + 11), u12), ((o + 12), u14), ((o + 13), w3_a_done), ((o + 15), w3_a_waits), ((o + 16), w3_a_most), ((o + 18), w3_a_state)]) hx hb hG hR hS k_a_load c13 hN_A 2 rfl eu14 rfl dX14_start_71 (fun H locs hR hS => ?_)
    refine lv_aload_n hx hb dX14_start_72 rfl (lv_at hl 0 rfl) ?_
    refine g_getr (b := (o + 13)) hx hb hts hown hG hR gFx_X14_48_11 shM.1 ((shM.2 12 _ rfl).2) dX14_start_73 ?_
    refine lv_iload_n hx hb dX14_start_76 rfl (lv_at hl 2 rfl) ?_
    refine lv_iconst (v := 0) hx hb dX14_start_77 li_0 ?_
    obtain ⟨c15, hf⟩ := gd_some hf
    obtain ⟨u16, eu16, hf⟩ := lt_some hf
    refine n_iast (la' := [((o + 2), a_now), ((o + 11), u12), ((o + 12), u14), ((o + 13), u16), ((o + 15), w3_a_waits), ((o + 16), w3_a_most), ((o + 18), w3_a_state)]) hx hb hG hR hS k_a_done c15 hN_A 3 rfl eu16 rfl dX14_start_78 (fun H locs hR hS => ?_)
    refine lv_aload_n hx hb dX14_start_79 rfl (lv_at hl 0 rfl) ?_
    refine g_getr (b := (o + 15)) hx hb hts hown hG hR gFx_X14_54_11 shM.1 ((shM.2 14 _ rfl).2) dX14_start_80 ?_
    refine lv_iload_n hx hb dX14_start_83 rfl (lv_at hl 2 rfl) ?_
    refine lv_iconst (v := 0) hx hb dX14_start_84 li_0 ?_
    obtain ⟨c17, hf⟩ := gd_some hf
    obtain ⟨u18, eu18, hf⟩ := lt_some hf
    refine n_iast (la' := [((o + 2), a_now), ((o + 11), u12), ((o + 12), u14), ((o + 13), u16), ((o + 15), u18), ((o + 16), w3_a_most), ((o + 18), w3_a_state)]) hx hb hG hR hS k_a_waits c17 hN_A 4 rfl eu18 rfl dX14_start_85 (fun H locs hR hS => ?_)
    refine lv_aload_n hx hb dX14_start_86 rfl (lv_at hl 0 rfl) ?_
    refine g_getr (b := (o + 16)) hx hb hts hown hG hR gFx_X14_57_11 shM.1 ((shM.2 15 _ rfl).2) dX14_start_87 ?_
    refine lv_iload_n hx hb dX14_start_90 rfl (lv_at hl 2 rfl) ?_
    refine lv_iconst (v := 0) hx hb dX14_start_91 li_0 ?_
    obtain ⟨c19, hf⟩ := gd_some hf
    obtain ⟨u20, eu20, hf⟩ := lt_some hf
    refine n_iast (la' := [((o + 2), a_now), ((o + 11), u12), ((o + 12), u14), ((o + 13), u16), ((o + 15), u18), ((o + 16), u20), ((o + 18), w3_a_state)]) hx hb hG hR hS k_a_most c19 hN_A 5 rfl eu20 rfl dX14_start_92 (fun H locs hR hS => ?_)
    refine lv_aload_n hx hb dX14_start_93 rfl (lv_at hl 0 rfl) ?_
    refine g_getr (b := (o + 18)) hx hb hts hown hG hR gFx_X14_63_11 shM.1 ((shM.2 17 _ rfl).2) dX14_start_94 ?_
    refine lv_iload_n hx hb dX14_start_97 rfl (lv_at hl 2 rfl) ?_
    refine lv_iconst (v := 0) hx hb dX14_start_98 li_0 ?_
    obtain ⟨c21, hf⟩ := gd_some hf
    obtain ⟨u22, eu22, hf⟩ := lt_some hf
    refine n_iast (la' := [((o + 2), a_now), ((o + 11), u12), ((o + 12), u14), ((o + 13), u16), ((o + 15), u18), ((o + 16), u20), ((o + 18), u22)]) hx hb hG hR hS k_a_state c21 hN_A 6 rfl eu22 rfl dX14_start_99 (fun H locs hR hS => ?_)
    obtain ⟨v23, ev23, hf⟩ := lt_some hf
    refine lv_iinc (k := 2) (v := v23) (lv' := [(3, .int v23), (0, .ref o), (1, .int p1)]) hx hb dX14_start_100 hl rfl (by rw [ev23]; rfl) (by decide) rfl (fun ls hl => ?_)
    refine lv_goto (tgt := 52) hx hb dX14_start_103 (by decide) ?_
    obtain rfl := some_i hf
    exact hk3 _ _ _ hR hS (lv_sub hl [1, 2, 0] rfl)
noncomputable def f14_push (p1 : Int32) (p2 : Int32) (a_queue : Nat → Int32) (a_waits : Nat → Int32) : Option ((Nat → Int32) × (Nat → Int32)) :=
  lt ((30 : Int32) * p1) fun v1 =>
  gd (inb p1 12) <|
  lt (a_waits p1.toNatClampNeg) fun v3 =>
  lt (v1 + v3) fun v4 =>
  gd (inb v4 360) <|
  lt (upd a_queue v4.toNatClampNeg p2) fun u6 =>
  gd (inb p1 12) <|
  lt (a_waits p1.toNatClampNeg) fun v8 =>
  lt (v8 + (1 : Int32)) fun v9 =>
  gd (inb p1 12) <|
  lt (upd a_waits p1.toNatClampNeg v9) fun u11 =>
  some (u6, u11)
set_option maxHeartbeats 4000000 in
theorem m14_push (l : Launch) (G : gG) (K : gK) (I : gI) (J : gJ) (X : gX) (A : gI) (B : gJ) (Q : gX) (o : Nat) (shM : Sh K X o 11 rows11) (p1 : Int32) (p2 : Int32) (a_queue : Nat → Int32) (a_waits : Nat → Int32) (e_a_queue : A (o + 14) = a_queue) (e_a_waits : A (o + 15) = a_waits) (out : (Nat → Int32) × (Nat → Int32)) (hf : f14_push p1 p2 a_queue a_waits = some out) : GMet l yX14_push cX14_push 3 none (0) (0) G [.ref o, .int p1, .int p2] K I J X A B Q none K I J X (ova A [((o + 14), out.1), ((o + 15), out.2)]) B Q 0 0 := by
  refine GMet.of (y := yX14_push) rfl (Nat.le_of_ble_eq_true rfl) rfl ?_
  intro p e s m below meth c ls hx hb hr hml hlocks hts hown hname hG hR hl
  have hown : s.vm.findClass RX14 = some m.cls := hown
  have k_a_queue : K (o + 14) = some (.inr (0, 360)) := (shM.2 13 _ rfl).1
  have k_a_waits : K (o + 15) = some (.inr (0, 12)) := (shM.2 14 _ rfl).1
  have hN_A : nda [(o + 14), (o + 15)] := nd_off o [14, 15] rfl
  have hR : RS G K I J X (ova A [((o + 14), a_queue), ((o + 15), a_waits)]) B Q s.heap := hR.to rfl rfl rfl (Eq.symm (ova_sc e_a_queue (ova_sc e_a_waits rfl))) rfl rfl
  have hS : va_S (gA G) s.heap s.heap [] := va_S.rf
  have hend : ∀ (pc : Nat) (H : Heap) (locs : List Loc) (ls : Array Slot), decode cX14_push pc = .ok (.return_, 1) → RS G K I J X (ova A [((o + 14), out.1), ((o + 15), out.2)]) B Q H → va_S (gA G) s.heap H locs → W p l e ({ frames := 0, cells := 0, slots := 0, locals := 0 } : Room) s m ([.ref o, .int p1, .int p2] : List Value).toArray below meth c H locs 0 0 (MQ below (gQ G none K I J X (ova A [((o + 14), out.1), ((o + 15), out.2)]) B Q) ([.ref o, .int p1, .int p2] : List Value).toArray s 0 0 (gA G)) (F0 m pc ls []) := fun pc H locs ls hd hR hS => g_vret hx hb hr hlocks hG hR hS rfl hd
  generalize MQ below (gQ G none K I J X (ova A [((o + 14), out.1), ((o + 15), out.2)]) B Q) ([.ref o, .int p1, .int p2] : List Value).toArray s 0 0 (gA G) = Z at hend ⊢
  generalize ([.ref o, .int p1, .int p2] : List Value).toArray = args at hts hend ⊢
  unfold f14_push at hf
  refine lv_aload_n hx hb dX14_push_0 rfl (lv_at hl 0 rfl) ?_
  refine g_getr (b := (o + 14)) hx hb hts hown hG hR gFx_X14_51_11 shM.1 ((shM.2 13 _ rfl).2) dX14_push_1 ?_
  refine lv_bipush (v := 30) hx hb dX14_push_4 lb_30 ?_
  refine lv_iload_n hx hb dX14_push_6 rfl (lv_at hl 1 rfl) ?_
  obtain ⟨v1, ev1, hf⟩ := lt_some hf
  refine n_imul hx hb ev1 dX14_push_7 ?_
  refine lv_aload_n hx hb dX14_push_8 rfl (lv_at hl 0 rfl) ?_
  refine g_getr (b := (o + 15)) hx hb hts hown hG hR gFx_X14_54_11 shM.1 ((shM.2 14 _ rfl).2) dX14_push_9 ?_
  refine lv_iload_n hx hb dX14_push_12 rfl (lv_at hl 1 rfl) ?_
  obtain ⟨c2, hf⟩ := gd_some hf
  obtain ⟨v3, ev3, hf⟩ := lt_some hf
  refine n_iald (x := a_waits) hx hb hG hR k_a_waits c2 (ova_get 1 hN_A rfl) ev3 dX14_push_13 ?_
  obtain ⟨v4, ev4, hf⟩ := lt_some hf
  refine n_iadd hx hb ev4 dX14_push_14 ?_
  refine lv_iload_n hx hb dX14_push_15 rfl (lv_at hl 2 rfl) ?_
  obtain ⟨c5, hf⟩ := gd_some hf
  obtain ⟨u6, eu6, hf⟩ := lt_some hf
  refine n_iast (la' := [((o + 14), u6), ((o + 15), a_waits)]) hx hb hG hR hS k_a_queue c5 hN_A 0 rfl eu6 rfl dX14_push_16 (fun H locs hR hS => ?_)
  refine lv_aload_n hx hb dX14_push_17 rfl (lv_at hl 0 rfl) ?_
  refine g_getr (b := (o + 15)) hx hb hts hown hG hR gFx_X14_54_11 shM.1 ((shM.2 14 _ rfl).2) dX14_push_18 ?_
  refine lv_iload_n hx hb dX14_push_21 rfl (lv_at hl 1 rfl) ?_
  refine lv_dup2_11 hx hb dX14_push_22 rfl rfl ?_
  obtain ⟨c7, hf⟩ := gd_some hf
  obtain ⟨v8, ev8, hf⟩ := lt_some hf
  refine n_iald (x := a_waits) hx hb hG hR k_a_waits c7 (ova_get 1 hN_A rfl) ev8 dX14_push_23 ?_
  refine lv_iconst (v := 1) hx hb dX14_push_24 li_1 ?_
  obtain ⟨v9, ev9, hf⟩ := lt_some hf
  refine n_iadd hx hb ev9 dX14_push_25 ?_
  obtain ⟨c10, hf⟩ := gd_some hf
  obtain ⟨u11, eu11, hf⟩ := lt_some hf
  refine n_iast (la' := [((o + 14), u6), ((o + 15), u11)]) hx hb hG hR hS k_a_waits c10 hN_A 1 rfl eu11 rfl dX14_push_26 (fun H locs hR hS => ?_)
  obtain rfl := some_i hf
  exact hend _ _ _ _ dX14_push_27 hR hS
noncomputable def f14_draws_j26 (i_well : Int32) (i_drawn : Int32) (j26_s0 : Int32) : Option (Int32 × Int32 × Int32) :=
  lt (i_well - j26_s0) fun v3 =>
  lt (i_drawn + j26_s0) fun v4 =>
  some (j26_s0, v3, v4)

noncomputable def f14_draws (i_well : Int32) (i_drawn : Int32) (a_now : Nat → Int32) : Option (Int32 × Int32 × Int32) :=
  gd (inb (3 : Int32) 800) <|
  lt (a_now (3 : Int32).toNatClampNeg) fun v2 =>
  if v2 ≤ i_well then
    gd (inb (3 : Int32) 800) <|
    lt (a_now (3 : Int32).toNatClampNeg) fun v7 =>
    f14_draws_j26 i_well i_drawn v7
  else
    f14_draws_j26 i_well i_drawn i_well
set_option maxHeartbeats 4000000 in
theorem m14_draws (l : Launch) (G : gG) (K : gK) (I : gI) (J : gJ) (X : gX) (A : gI) (B : gJ) (Q : gX) (o : Nat) (shM : Sh K X o 11 rows11)  (i_well : Int32) (i_drawn : Int32) (a_now : Nat → Int32) (e_i_well : I 1135 o = i_well) (e_i_drawn : I 1142 o = i_drawn) (e_a_now : A (o + 2) = a_now) (out : Int32 × Int32 × Int32) (hf : f14_draws i_well i_drawn a_now = some out) : GMet l yX14_draws cX14_draws 2 (some .int) (0) (0) G [.ref o] K I J X A B Q (some (.int out.1)) K (ov I [(1135, o, out.2.1), (1142, o, out.2.2)]) J X A B Q 0 0 := by
  refine GMet.of (y := yX14_draws) rfl (Nat.le_of_ble_eq_true rfl) rfl ?_
  intro p e s m below meth c ls hx hb hr hml hlocks hts hown hname hG hR hl
  have hown : s.vm.findClass RX14 = some m.cls := hown
  have k_a_now : K (o + 2) = some (.inr (0, 800)) := (shM.2 1 _ rfl).1
  have hR : RS G K (ov I [(1135, o, i_well), (1142, o, i_drawn)]) J X A B Q s.heap := hR.to (Eq.symm (ov_sc e_i_well (ov_sc e_i_drawn rfl))) rfl rfl rfl rfl rfl
  have hS : va_S (gA G) s.heap s.heap [] := va_S.rf
  have hend : ∀ (pc : Nat) (H : Heap) (locs : List Loc) (ls : Array Slot), decode cX14_draws pc = .ok (.ireturn, 1) → RS G K (ov I [(1135, o, out.2.1), (1142, o, out.2.2)]) J X A B Q H → va_S (gA G) s.heap H locs → W p l e ({ frames := 0, cells := 0, slots := 0, locals := 0 } : Room) s m ([.ref o] : List Value).toArray below meth c H locs 0 0 (MQ below (gQ G (some (.int out.1)) K (ov I [(1135, o, out.2.1), (1142, o, out.2.2)]) J X A B Q) ([.ref o] : List Value).toArray s 0 0 (gA G)) (F0 m pc ls [.int out.1]) := fun pc H locs ls hd hR hS => g_iret hx hb hr hlocks hG hR hS rfl hd
  generalize MQ below (gQ G (some (.int out.1)) K (ov I [(1135, o, out.2.1), (1142, o, out.2.2)]) J X A B Q) ([.ref o] : List Value).toArray s 0 0 (gA G) = Z at hend ⊢
  generalize ([.ref o] : List Value).toArray = args at hts hend ⊢
  unfold f14_draws at hf
  refine lv_aload_n hx hb dX14_draws_0 rfl (lv_at hl 0 rfl) ?_
  refine n_geti (v := i_well) hx hb hts hown hG hR gFi_X14_334_11 shM.1 (ov_get 0 rfl rfl) dX14_draws_1 ?_
  refine lv_aload_n hx hb dX14_draws_4 rfl (lv_at hl 0 rfl) ?_
  refine g_getr (b := (o + 2)) hx hb hts hown hG hR gFx_X14_13_11 shM.1 ((shM.2 1 _ rfl).2) dX14_draws_5 ?_
  refine lv_iconst (v := 3) hx hb dX14_draws_8 li_3 ?_
  obtain ⟨c1, hf⟩ := gd_some hf
  obtain ⟨v2, ev2, hf⟩ := lt_some hf
  refine n_iald (x := a_now) hx hb hG hR k_a_now c1 e_a_now ev2 dX14_draws_9 ?_
  have hj26 : ∀ (j26_s0 : Int32), f14_draws_j26 i_well i_drawn j26_s0 = some out → ∀ (H : Heap) (locs : List Loc) (ls : Array Slot), RS G K (ov I [(1135, o, i_well), (1142, o, i_drawn)]) J X A B Q H → va_S (gA G) s.heap H locs → lv_has ls 2 [(0, .ref o)] → W p l e ({ frames := 0, cells := 0, slots := 0, locals := 0 } : Room) s m args below meth c H locs 0 0 Z (F0 m 26 ls [.int j26_s0]) := by
    intro j26_s0 hf H locs ls hR hS hl
    unfold f14_draws_j26 at hf
    refine lv_istore_n (lv' := [(1, .int j26_s0), (0, .ref o)]) hx hb dX14_draws_26 rfl hl (by decide) rfl (fun ls hl => ?_)
    refine lv_aload_n hx hb dX14_draws_27 rfl (lv_at hl 1 rfl) ?_
    refine lv_dup hx hb dX14_draws_28 rfl ?_
    refine n_geti (v := i_well) hx hb hts hown hG hR gFi_X14_334_11 shM.1 (ov_get 0 rfl rfl) dX14_draws_29 ?_
    refine lv_iload_n hx hb dX14_draws_32 rfl (lv_at hl 0 rfl) ?_
    obtain ⟨v3, ev3, hf⟩ := lt_some hf
    refine n_isub hx hb ev3 dX14_draws_33 ?_
    refine n_puti (li' := [(1135, o, v3), (1142, o, i_drawn)]) hx hb hts hown hG hR hS gPi_X14_334_11 shM.1 0 rfl rfl rfl dX14_draws_34 (fun H locs hR hS => ?_)
    refine lv_aload_n hx hb dX14_draws_37 rfl (lv_at hl 1 rfl) ?_
    refine lv_dup hx hb dX14_draws_38 rfl ?_
    refine n_geti (v := i_drawn) hx hb hts hown hG hR gFi_X14_325_11 shM.1 (ov_get 1 rfl rfl) dX14_draws_39 ?_
    refine lv_iload_n hx hb dX14_draws_42 rfl (lv_at hl 0 rfl) ?_
    obtain ⟨v4, ev4, hf⟩ := lt_some hf
    refine n_iadd hx hb ev4 dX14_draws_43 ?_
    refine n_puti (li' := [(1135, o, v3), (1142, o, v4)]) hx hb hts hown hG hR hS gPi_X14_325_11 shM.1 1 rfl rfl rfl dX14_draws_44 (fun H locs hR hS => ?_)
    refine lv_iload_n hx hb dX14_draws_47 rfl (lv_at hl 0 rfl) ?_
    obtain rfl := some_i hf
    exact hend _ _ _ _ dX14_draws_48 hR hS
  refine lv_icmp_ge (tgt := 20) hx hb dX14_draws_10 (by decide) (fun c5 => ?_) (fun c5 => ?_)
  · have hf := ite_t c5 hf
    refine lv_aload_n hx hb dX14_draws_20 rfl (lv_at hl 0 rfl) ?_
    refine g_getr (b := (o + 2)) hx hb hts hown hG hR gFx_X14_13_11 shM.1 ((shM.2 1 _ rfl).2) dX14_draws_21 ?_
    refine lv_iconst (v := 3) hx hb dX14_draws_24 li_3 ?_
    obtain ⟨c6, hf⟩ := gd_some hf
    obtain ⟨v7, ev7, hf⟩ := lt_some hf
    refine n_iald (x := a_now) hx hb hG hR k_a_now c6 e_a_now ev7 dX14_draws_25 ?_
    exact hj26 v7 hf _ _ _ hR hS (lv_sub hl [0] rfl)
  · have hf := ite_f c5 hf
    refine lv_aload_n hx hb dX14_draws_13 rfl (lv_at hl 0 rfl) ?_
    refine n_geti (v := i_well) hx hb hts hown hG hR gFi_X14_334_11 shM.1 (ov_get 0 rfl rfl) dX14_draws_14 ?_
    refine lv_goto (tgt := 26) hx hb dX14_draws_17 (by decide) ?_
    exact hj26 i_well hf _ _ _ hR hS (lv_sub hl [0] rfl)
noncomputable def f14_shift_e9_0 (v3 : Int32) (u8 : Nat → Int32) (x9_0 : (Nat → Int32)) : Option (Int32 × (Nat → Int32) × (Nat → Int32)) :=
  some (v3, x9_0, u8)

noncomputable def f14_shift_s9 (p1 : Int32) (u8 : Nat → Int32) (w9_3 : Int32) (w9_a_queue : Nat → Int32) : Option ((Int32 × (Nat → Int32)) ⊕ ((Nat → Int32))) :=
  gd (inb p1 12) <|
  lt (u8 p1.toNatClampNeg) fun v11 =>
  if v11 ≤ w9_3 then
    some (.inr w9_a_queue)
  else
    lt ((30 : Int32) * p1) fun v13 =>
    lt (v13 + w9_3) fun v14 =>
    lt ((30 : Int32) * p1) fun v15 =>
    lt (v15 + w9_3) fun v16 =>
    lt (v16 + (1 : Int32)) fun v17 =>
    gd (inb v17 360) <|
    lt (w9_a_queue v17.toNatClampNeg) fun v19 =>
    gd (inb v14 360) <|
    lt (upd w9_a_queue v14.toNatClampNeg v19) fun u21 =>
    lt (w9_3 + (1 : Int32)) fun v22 =>
    some (.inl (v22, u21))

noncomputable def f14_shift (p1 : Int32) (a_queue : Nat → Int32) (a_waits : Nat → Int32) : Option (Int32 × (Nat → Int32) × (Nat → Int32)) :=
  lt ((30 : Int32) * p1) fun v1 =>
  gd (inb v1 360) <|
  lt (a_queue v1.toNatClampNeg) fun v3 =>
  gd (inb p1 12) <|
  lt (a_waits p1.toNatClampNeg) fun v5 =>
  lt (v5 - (1 : Int32)) fun v6 =>
  gd (inb p1 12) <|
  lt (upd a_waits p1.toNatClampNeg v6) fun u8 =>
  (whl (fun (s9 : Int32 × (Nat → Int32)) => f14_shift_s9 p1 u8 s9.1 s9.2) FU ((0 : Int32), a_queue)).bind fun rl9 =>
  f14_shift_e9_0 v3 u8 rl9
set_option maxHeartbeats 4000000 in
theorem m14_shift (l : Launch) (G : gG) (K : gK) (I : gI) (J : gJ) (X : gX) (A : gI) (B : gJ) (Q : gX) (o : Nat) (shM : Sh K X o 11 rows11) (p1 : Int32) (a_queue : Nat → Int32) (a_waits : Nat → Int32) (e_a_queue : A (o + 14) = a_queue) (e_a_waits : A (o + 15) = a_waits) (out : Int32 × (Nat → Int32) × (Nat → Int32)) (hf : f14_shift p1 a_queue a_waits = some out) : GMet l yX14_shift cX14_shift 4 (some .int) (0) (0) G [.ref o, .int p1] K I J X A B Q (some (.int out.1)) K I J X (ova A [((o + 14), out.2.1), ((o + 15), out.2.2)]) B Q 0 0 := by
  refine GMet.of (y := yX14_shift) rfl (Nat.le_of_ble_eq_true rfl) rfl ?_
  intro p e s m below meth c ls hx hb hr hml hlocks hts hown hname hG hR hl
  have hown : s.vm.findClass RX14 = some m.cls := hown
  have k_a_queue : K (o + 14) = some (.inr (0, 360)) := (shM.2 13 _ rfl).1
  have k_a_waits : K (o + 15) = some (.inr (0, 12)) := (shM.2 14 _ rfl).1
  have hN_A : nda [(o + 14), (o + 15)] := nd_off o [14, 15] rfl
  have hR : RS G K I J X (ova A [((o + 14), a_queue), ((o + 15), a_waits)]) B Q s.heap := hR.to rfl rfl rfl (Eq.symm (ova_sc e_a_queue (ova_sc e_a_waits rfl))) rfl rfl
  have hS : va_S (gA G) s.heap s.heap [] := va_S.rf
  have hend : ∀ (pc : Nat) (H : Heap) (locs : List Loc) (ls : Array Slot), decode cX14_shift pc = .ok (.ireturn, 1) → RS G K I J X (ova A [((o + 14), out.2.1), ((o + 15), out.2.2)]) B Q H → va_S (gA G) s.heap H locs → W p l e ({ frames := 0, cells := 0, slots := 0, locals := 0 } : Room) s m ([.ref o, .int p1] : List Value).toArray below meth c H locs 0 0 (MQ below (gQ G (some (.int out.1)) K I J X (ova A [((o + 14), out.2.1), ((o + 15), out.2.2)]) B Q) ([.ref o, .int p1] : List Value).toArray s 0 0 (gA G)) (F0 m pc ls [.int out.1]) := fun pc H locs ls hd hR hS => g_iret hx hb hr hlocks hG hR hS rfl hd
  generalize MQ below (gQ G (some (.int out.1)) K I J X (ova A [((o + 14), out.2.1), ((o + 15), out.2.2)]) B Q) ([.ref o, .int p1] : List Value).toArray s 0 0 (gA G) = Z at hend ⊢
  generalize ([.ref o, .int p1] : List Value).toArray = args at hts hend ⊢
  unfold f14_shift at hf
  refine lv_aload_n hx hb dX14_shift_0 rfl (lv_at hl 0 rfl) ?_
  refine g_getr (b := (o + 14)) hx hb hts hown hG hR gFx_X14_51_11 shM.1 ((shM.2 13 _ rfl).2) dX14_shift_1 ?_
  refine lv_bipush (v := 30) hx hb dX14_shift_4 lb_30 ?_
  refine lv_iload_n hx hb dX14_shift_6 rfl (lv_at hl 1 rfl) ?_
  obtain ⟨v1, ev1, hf⟩ := lt_some hf
  refine n_imul hx hb ev1 dX14_shift_7 ?_
  obtain ⟨c2, hf⟩ := gd_some hf
  obtain ⟨v3, ev3, hf⟩ := lt_some hf
  refine n_iald (x := a_queue) hx hb hG hR k_a_queue c2 (ova_get 0 hN_A rfl) ev3 dX14_shift_8 ?_
  refine lv_istore_n (lv' := [(2, .int v3), (0, .ref o), (1, .int p1)]) hx hb dX14_shift_9 rfl hl (by decide) rfl (fun ls hl => ?_)
  refine lv_aload_n hx hb dX14_shift_10 rfl (lv_at hl 1 rfl) ?_
  refine g_getr (b := (o + 15)) hx hb hts hown hG hR gFx_X14_54_11 shM.1 ((shM.2 14 _ rfl).2) dX14_shift_11 ?_
  refine lv_iload_n hx hb dX14_shift_14 rfl (lv_at hl 2 rfl) ?_
  refine lv_dup2_11 hx hb dX14_shift_15 rfl rfl ?_
  obtain ⟨c4, hf⟩ := gd_some hf
  obtain ⟨v5, ev5, hf⟩ := lt_some hf
  refine n_iald (x := a_waits) hx hb hG hR k_a_waits c4 (ova_get 1 hN_A rfl) ev5 dX14_shift_16 ?_
  refine lv_iconst (v := 1) hx hb dX14_shift_17 li_1 ?_
  obtain ⟨v6, ev6, hf⟩ := lt_some hf
  refine n_isub hx hb ev6 dX14_shift_18 ?_
  obtain ⟨c7, hf⟩ := gd_some hf
  obtain ⟨u8, eu8, hf⟩ := lt_some hf
  refine n_iast (la' := [((o + 14), a_queue), ((o + 15), u8)]) hx hb hG hR hS k_a_waits c7 hN_A 1 rfl eu8 rfl dX14_shift_19 (fun H locs hR hS => ?_)
  refine lv_iconst (v := 0) hx hb dX14_shift_20 li_0 ?_
  refine lv_istore_n (lv' := [(3, .int (0 : Int32)), (2, .int v3), (0, .ref o), (1, .int p1)]) hx hb dX14_shift_21 rfl hl (by decide) rfl (fun ls hl => ?_)
  obtain ⟨rl9, hw9, hfo9⟩ := bind_s hf
  have hx9_0 : ∀ (x9_0 : (Nat → Int32)), f14_shift_e9_0 v3 u8 x9_0 = some out → ∀ (H : Heap) (locs : List Loc) (ls : Array Slot), RS G K I J X (ova A [((o + 14), x9_0), ((o + 15), u8)]) B Q H → va_S (gA G) s.heap H locs → lv_has ls 4 [(0, .ref o), (2, .int v3)] → W p l e ({ frames := 0, cells := 0, slots := 0, locals := 0 } : Room) s m args below meth c H locs 0 0 Z (F0 m 62 ls []) := by
    intro x9_0 hf H locs ls hR hS hl
    unfold f14_shift_e9_0 at hf
    refine lv_iload_n hx hb dX14_shift_62 rfl (lv_at hl 1 rfl) ?_
    obtain rfl := some_i hf
    exact hend _ _ _ _ dX14_shift_63 hR hS
  refine whl_walk (P := fun (s9 : Int32 × (Nat → Int32)) => ∀ (H : Heap) (locs : List Loc) (ls : Array Slot), RS G K I J X (ova A [((o + 14), s9.2), ((o + 15), u8)]) B Q H → va_S (gA G) s.heap H locs → lv_has ls 4 [(0, .ref o), (1, .int p1), (2, .int v3), (3, .int s9.1)] → W p l e ({ frames := 0, cells := 0, slots := 0, locals := 0 } : Room) s m args below meth c H locs 0 0 Z (F0 m 22 ls [])) (r := rl9) ?_ FU _ hw9 _ _ _ hR hS (lv_sub hl [2, 3, 1, 0] rfl)
  clear hR hS hl hf
  intro s9 o9 hf hk9 H locs ls hR hS hl
  obtain ⟨w9_3, w9_a_queue⟩ := s9
  have hf : f14_shift_s9 p1 u8 w9_3 w9_a_queue = some o9 := hf
  have hR : RS G K I J X (ova A [((o + 14), w9_a_queue), ((o + 15), u8)]) B Q H := hR
  have hl : lv_has ls 4 [(0, .ref o), (1, .int p1), (2, .int v3), (3, .int w9_3)] := hl
  unfold f14_shift_s9 at hf
  refine lv_iload_n hx hb dX14_shift_22 rfl (lv_at hl 3 rfl) ?_
  refine lv_aload_n hx hb dX14_shift_23 rfl (lv_at hl 0 rfl) ?_
  refine g_getr (b := (o + 15)) hx hb hts hown hG hR gFx_X14_54_11 shM.1 ((shM.2 14 _ rfl).2) dX14_shift_24 ?_
  refine lv_iload_n hx hb dX14_shift_27 rfl (lv_at hl 1 rfl) ?_
  obtain ⟨c10, hf⟩ := gd_some hf
  obtain ⟨v11, ev11, hf⟩ := lt_some hf
  refine n_iald (x := u8) hx hb hG hR k_a_waits c10 (ova_get 1 hN_A rfl) ev11 dX14_shift_28 ?_
  refine lv_icmp_ge (tgt := 62) hx hb dX14_shift_29 (by decide) (fun c12 => ?_) (fun c12 => ?_)
  · have hf := ite_t c12 hf
    obtain rfl := some_i hf
    replace hk9 : _ = rl9 := hk9
    subst hk9
    exact hx9_0 w9_a_queue hfo9 _ _ _ hR hS (lv_sub hl [0, 2] rfl)
  · have hf := ite_f c12 hf
    refine lv_aload_n hx hb dX14_shift_32 rfl (lv_at hl 0 rfl) ?_
    refine g_getr (b := (o + 14)) hx hb hts hown hG hR gFx_X14_51_11 shM.1 ((shM.2 13 _ rfl).2) dX14_shift_33 ?_
    refine lv_bipush (v := 30) hx hb dX14_shift_36 lb_30 ?_
    refine lv_iload_n hx hb dX14_shift_38 rfl (lv_at hl 1 rfl) ?_
    obtain ⟨v13, ev13, hf⟩ := lt_some hf
    refine n_imul hx hb ev13 dX14_shift_39 ?_
    refine lv_iload_n hx hb dX14_shift_40 rfl (lv_at hl 3 rfl) ?_
    obtain ⟨v14, ev14, hf⟩ := lt_some hf
    refine n_iadd hx hb ev14 dX14_shift_41 ?_
    refine lv_aload_n hx hb dX14_shift_42 rfl (lv_at hl 0 rfl) ?_
    refine g_getr (b := (o + 14)) hx hb hts hown hG hR gFx_X14_51_11 shM.1 ((shM.2 13 _ rfl).2) dX14_shift_43 ?_
    refine lv_bipush (v := 30) hx hb dX14_shift_46 lb_30 ?_
    refine lv_iload_n hx hb dX14_shift_48 rfl (lv_at hl 1 rfl) ?_
    obtain ⟨v15, ev15, hf⟩ := lt_some hf
    refine n_imul hx hb ev15 dX14_shift_49 ?_
    refine lv_iload_n hx hb dX14_shift_50 rfl (lv_at hl 3 rfl) ?_
    obtain ⟨v16, ev16, hf⟩ := lt_some hf
    refine n_iadd hx hb ev16 dX14_shift_51 ?_
    refine lv_iconst (v := 1) hx hb dX14_shift_52 li_1 ?_
    obtain ⟨v17, ev17, hf⟩ := lt_some hf
    refine n_iadd hx hb ev17 dX14_shift_53 ?_
    obtain ⟨c18, hf⟩ := gd_some hf
    obtain ⟨v19, ev19, hf⟩ := lt_some hf
    refine n_iald (x := w9_a_queue) hx hb hG hR k_a_queue c18 (ova_get 0 hN_A rfl) ev19 dX14_shift_54 ?_
    obtain ⟨c20, hf⟩ := gd_some hf
    obtain ⟨u21, eu21, hf⟩ := lt_some hf
    refine n_iast (la' := [((o + 14), u21), ((o + 15), u8)]) hx hb hG hR hS k_a_queue c20 hN_A 0 rfl eu21 rfl dX14_shift_55 (fun H locs hR hS => ?_)
    obtain ⟨v22, ev22, hf⟩ := lt_some hf
    refine lv_iinc (k := 3) (v := v22) (lv' := [(3, .int v22), (0, .ref o), (1, .int p1), (2, .int v3)]) hx hb dX14_shift_56 hl rfl (by rw [ev22]; rfl) (by decide) rfl (fun ls hl => ?_)
    refine lv_goto (tgt := 22) hx hb dX14_shift_59 (by decide) ?_
    obtain rfl := some_i hf
    exact hk9 _ _ _ hR hS (lv_sub hl [1, 2, 3, 0] rfl)
noncomputable def f14_up (p1 : Int32) (p2 : Int32) : Option (Int32) :=
  lt (p1 + p2) fun v1 =>
  lt (v1 - (1 : Int32)) fun v2 =>
  gd (¬ p2 = 0) <|
  lt (v2 / p2) fun v3 =>
  some v3
set_option maxHeartbeats 4000000 in
theorem m14_up (l : Launch) (G : gG) (K : gK) (I : gI) (J : gJ) (X : gX) (A : gI) (B : gJ) (Q : gX)  (p1 : Int32) (p2 : Int32)   (out : Int32) (hf : f14_up p1 p2 = some out) : GMet l yX14_up cX14_up 2 (some .int) (0) (0) G [.int p1, .int p2] K I J X A B Q (some (.int out)) K I J X A B Q 0 0 := by
  refine GMet.of (y := yX14_up) rfl (Nat.le_of_ble_eq_true rfl) rfl ?_
  intro p e s m below meth c ls hx hb hr hml hlocks hts hown hname hG hR hl
  have hown : s.vm.findClass RX14 = some m.cls := hown
  have hR : RS G K I J X A B Q s.heap := hR.to rfl rfl rfl rfl rfl rfl
  have hS : va_S (gA G) s.heap s.heap [] := va_S.rf
  have hend : ∀ (pc : Nat) (H : Heap) (locs : List Loc) (ls : Array Slot), decode cX14_up pc = .ok (.ireturn, 1) → RS G K I J X A B Q H → va_S (gA G) s.heap H locs → W p l e ({ frames := 0, cells := 0, slots := 0, locals := 0 } : Room) s m ([.int p1, .int p2] : List Value).toArray below meth c H locs 0 0 (MQ below (gQ G (some (.int out)) K I J X A B Q) ([.int p1, .int p2] : List Value).toArray s 0 0 (gA G)) (F0 m pc ls [.int out]) := fun pc H locs ls hd hR hS => g_iret hx hb hr hlocks hG hR hS rfl hd
  generalize MQ below (gQ G (some (.int out)) K I J X A B Q) ([.int p1, .int p2] : List Value).toArray s 0 0 (gA G) = Z at hend ⊢
  generalize ([.int p1, .int p2] : List Value).toArray = args at hts hend ⊢
  unfold f14_up at hf
  refine lv_iload_n hx hb dX14_up_0 rfl (lv_at hl 0 rfl) ?_
  refine lv_iload_n hx hb dX14_up_1 rfl (lv_at hl 1 rfl) ?_
  obtain ⟨v1, ev1, hf⟩ := lt_some hf
  refine n_iadd hx hb ev1 dX14_up_2 ?_
  refine lv_iconst (v := 1) hx hb dX14_up_3 li_1 ?_
  obtain ⟨v2, ev2, hf⟩ := lt_some hf
  refine n_isub hx hb ev2 dX14_up_4 ?_
  refine lv_iload_n hx hb dX14_up_5 rfl (lv_at hl 1 rfl) ?_
  obtain ⟨c4, hf⟩ := gd_some hf
  obtain ⟨v3, ev3, hf⟩ := lt_some hf
  refine n_idiv hx hb c4 ev3 dX14_up_6 ?_
  obtain rfl := some_i hf
  exact hend _ _ _ _ dX14_up_7 hR hS
noncomputable def f14_isDrawn_e1_0 (x1_0 : Int32) : Option (Int32) :=
  some x1_0

noncomputable def f14_isDrawn_s1 (i_teamMany : Int32) (a_state : Nat → Int32) (w1_1 : Int32) : Option ((Int32) ⊕ (Int32)) :=
  if i_teamMany ≤ w1_1 then
    some (.inr (0 : Int32))
  else
    gd (inb w1_1 12) <|
    lt (a_state w1_1.toNatClampNeg) fun v4 =>
    if v4 = (1 : Int32) then
      some (.inr (1 : Int32))
    else
      lt (w1_1 + (1 : Int32)) fun v6 =>
      some (.inl v6)

noncomputable def f14_isDrawn (i_teamMany : Int32) (a_state : Nat → Int32) : Option (Int32) :=
  (whl (fun (s1 : Int32) => f14_isDrawn_s1 i_teamMany a_state s1) FU (0 : Int32)).bind fun rl1 =>
  f14_isDrawn_e1_0 rl1
set_option maxHeartbeats 4000000 in
theorem m14_isDrawn (l : Launch) (G : gG) (K : gK) (I : gI) (J : gJ) (X : gX) (A : gI) (B : gJ) (Q : gX) (o : Nat) (shM : Sh K X o 11 rows11)  (i_teamMany : Int32) (a_state : Nat → Int32) (e_i_teamMany : I 1133 o = i_teamMany) (e_a_state : A (o + 18) = a_state) (out : Int32) (hf : f14_isDrawn i_teamMany a_state = some out) : GMet l yX14_isDrawn cX14_isDrawn 2 (some .boolean) (0) (0) G [.ref o] K I J X A B Q (some (.int out)) K I J X A B Q 0 0 := by
  refine GMet.of (y := yX14_isDrawn) rfl (Nat.le_of_ble_eq_true rfl) rfl ?_
  intro p e s m below meth c ls hx hb hr hml hlocks hts hown hname hG hR hl
  have hown : s.vm.findClass RX14 = some m.cls := hown
  have k_a_state : K (o + 18) = some (.inr (0, 12)) := (shM.2 17 _ rfl).1
  have hR : RS G K I J X A B Q s.heap := hR.to rfl rfl rfl rfl rfl rfl
  have hS : va_S (gA G) s.heap s.heap [] := va_S.rf
  have hend : ∀ (pc : Nat) (H : Heap) (locs : List Loc) (ls : Array Slot), decode cX14_isDrawn pc = .ok (.ireturn, 1) → narrow .boolean (.int out) = .int out → RS G K I J X A B Q H → va_S (gA G) s.heap H locs → W p l e ({ frames := 0, cells := 0, slots := 0, locals := 0 } : Room) s m ([.ref o] : List Value).toArray below meth c H locs 0 0 (MQ below (gQ G (some (.int out)) K I J X A B Q) ([.ref o] : List Value).toArray s 0 0 (gA G)) (F0 m pc ls [.int out]) := fun pc H locs ls hd hz hR hS => g_zret hx hb hr hlocks hz hG hR hS rfl hd
  generalize MQ below (gQ G (some (.int out)) K I J X A B Q) ([.ref o] : List Value).toArray s 0 0 (gA G) = Z at hend ⊢
  generalize ([.ref o] : List Value).toArray = args at hts hend ⊢
  unfold f14_isDrawn at hf
  refine lv_iconst (v := 0) hx hb dX14_isDrawn_0 li_0 ?_
  refine lv_istore_n (lv' := [(1, .int (0 : Int32)), (0, .ref o)]) hx hb dX14_isDrawn_1 rfl hl (by decide) rfl (fun ls hl => ?_)
  obtain ⟨rl1, hw1, hfo1⟩ := bind_s hf
  have hx1_0 : ∀ (x1_0 : Int32), f14_isDrawn_e1_0 x1_0 = some out → ∀ (pc : Nat) (H : Heap) (locs : List Loc) (ls : Array Slot), decode cX14_isDrawn pc = .ok (.ireturn, 1) → narrow .boolean (.int x1_0) = .int x1_0 → RS G K I J X A B Q H → va_S (gA G) s.heap H locs → W p l e ({ frames := 0, cells := 0, slots := 0, locals := 0 } : Room) s m args below meth c H locs 0 0 Z (F0 m pc ls [.int x1_0]) := by
    intro x1_0 hf pc H locs ls hd hz hR hS
    unfold f14_isDrawn_e1_0 at hf
    obtain rfl := some_i hf
    exact hend _ _ _ _ hd hz hR hS
  refine whl_walk (P := fun (s1 : Int32) => ∀ (H : Heap) (locs : List Loc) (ls : Array Slot), RS G K I J X A B Q H → va_S (gA G) s.heap H locs → lv_has ls 2 [(0, .ref o), (1, .int s1)] → W p l e ({ frames := 0, cells := 0, slots := 0, locals := 0 } : Room) s m args below meth c H locs 0 0 Z (F0 m 2 ls [])) (r := rl1) ?_ FU _ hw1 _ _ _ hR hS (lv_sub hl [1, 0] rfl)
  clear hR hS hl hf
  intro s1 o1 hf hk1 H locs ls hR hS hl
  obtain ⟨w1_1, rfl⟩ : ∃ z, z = s1 := ⟨_, rfl⟩
  have hf : f14_isDrawn_s1 i_teamMany a_state w1_1 = some o1 := hf
  have hR : RS G K I J X A B Q H := hR
  have hl : lv_has ls 2 [(0, .ref o), (1, .int w1_1)] := hl
  unfold f14_isDrawn_s1 at hf
  refine lv_iload_n hx hb dX14_isDrawn_2 rfl (lv_at hl 1 rfl) ?_
  refine lv_aload_n hx hb dX14_isDrawn_3 rfl (lv_at hl 0 rfl) ?_
  refine n_geti (v := i_teamMany) hx hb hts hown hG hR gFi_X14_304_11 shM.1 e_i_teamMany dX14_isDrawn_4 ?_
  refine lv_icmp_ge (tgt := 28) hx hb dX14_isDrawn_7 (by decide) (fun c2 => ?_) (fun c2 => ?_)
  · have hf := ite_t c2 hf
    refine lv_iconst (v := 0) hx hb dX14_isDrawn_28 li_0 ?_
    obtain rfl := some_i hf
    replace hk1 : _ = rl1 := hk1
    subst hk1
    exact hx1_0 (0 : Int32) hfo1 _ _ _ _ dX14_isDrawn_29 nz_0 hR hS
  · have hf := ite_f c2 hf
    refine lv_aload_n hx hb dX14_isDrawn_10 rfl (lv_at hl 0 rfl) ?_
    refine g_getr (b := (o + 18)) hx hb hts hown hG hR gFx_X14_63_11 shM.1 ((shM.2 17 _ rfl).2) dX14_isDrawn_11 ?_
    refine lv_iload_n hx hb dX14_isDrawn_14 rfl (lv_at hl 1 rfl) ?_
    obtain ⟨c3, hf⟩ := gd_some hf
    obtain ⟨v4, ev4, hf⟩ := lt_some hf
    refine n_iald (x := a_state) hx hb hG hR k_a_state c3 e_a_state ev4 dX14_isDrawn_15 ?_
    refine lv_iconst (v := 1) hx hb dX14_isDrawn_16 li_1 ?_
    refine lv_icmp_ne (tgt := 22) hx hb dX14_isDrawn_17 (by decide) (fun c5 => ?_) (fun c5 => ?_)
    · have hf := ite_f c5 hf
      obtain ⟨v6, ev6, hf⟩ := lt_some hf
      refine lv_iinc (k := 1) (v := v6) (lv' := [(1, .int v6), (0, .ref o)]) hx hb dX14_isDrawn_22 hl rfl (by rw [ev6]; rfl) (by decide) rfl (fun ls hl => ?_)
      refine lv_goto (tgt := 2) hx hb dX14_isDrawn_25 (by decide) ?_
      obtain rfl := some_i hf
      exact hk1 _ _ _ hR hS (lv_sub hl [1, 0] rfl)
    · have hf := ite_t c5 hf
      refine lv_iconst (v := 1) hx hb dX14_isDrawn_20 li_1 ?_
      obtain rfl := some_i hf
      replace hk1 : _ = rl1 := hk1
      subst hk1
      exact hx1_0 (1 : Int32) hfo1 _ _ _ _ dX14_isDrawn_21 nz_1 hR hS
noncomputable def f14_rowBy (p1 : Int32) (i_thrown : Int32) (a_rowBy : Nat → Int32) : Option (Int32 × Int32) :=
  (f14_isIn p1 (0 : Int32) (5 : Int32)).bind fun rr1 =>
  if rr1 = 0 then
    some ((-1 : Int32), (0 : Int32))
  else
    gd (inb p1 6) <|
    lt (a_rowBy p1.toNatClampNeg) fun v4 =>
    some (v4, (0 : Int32))
set_option maxHeartbeats 4000000 in
theorem m14_rowBy (l : Launch) (G : gG) (K : gK) (I : gI) (J : gJ) (X : gX) (A : gI) (B : gJ) (Q : gX) (o : Nat) (shM : Sh K X o 11 rows11) (p1 : Int32) (i_thrown : Int32) (a_rowBy : Nat → Int32) (e_i_thrown : I 1100 o = i_thrown) (e_a_rowBy : A (o + 19) = a_rowBy) (out : Int32 × Int32) (hf : f14_rowBy p1 i_thrown a_rowBy = some out) : GMet l yX14_rowBy cX14_rowBy 2 (some .int) (1) (22) G [.ref o, .int p1] K I J X A B Q (some (.int out.1)) K (ov I [(1100, o, out.2)]) J X A B Q 0 0 := by
  refine GMet.of (y := yX14_rowBy) rfl (Nat.le_of_ble_eq_true rfl) rfl ?_
  intro p e s m below meth c ls hx hb hr hml hlocks hts hown hname hG hR hl
  have hown : s.vm.findClass RX14 = some m.cls := hown
  have k_a_rowBy : K (o + 19) = some (.inr (0, 6)) := (shM.2 18 _ rfl).1
  have hR : RS G K (ov I [(1100, o, i_thrown)]) J X A B Q s.heap := hR.to (Eq.symm (ov_sc e_i_thrown rfl)) rfl rfl rfl rfl rfl
  have hS : va_S (gA G) s.heap s.heap [] := va_S.rf
  have hend : ∀ (pc : Nat) (H : Heap) (locs : List Loc) (ls : Array Slot), decode cX14_rowBy pc = .ok (.ireturn, 1) → RS G K (ov I [(1100, o, out.2)]) J X A B Q H → va_S (gA G) s.heap H locs → W p l e ({ frames := 1, cells := 0, slots := 0, locals := 22 } : Room) s m ([.ref o, .int p1] : List Value).toArray below meth c H locs 0 0 (MQ below (gQ G (some (.int out.1)) K (ov I [(1100, o, out.2)]) J X A B Q) ([.ref o, .int p1] : List Value).toArray s 0 0 (gA G)) (F0 m pc ls [.int out.1]) := fun pc H locs ls hd hR hS => g_iret hx hb hr hlocks hG hR hS rfl hd
  generalize MQ below (gQ G (some (.int out.1)) K (ov I [(1100, o, out.2)]) J X A B Q) ([.ref o, .int p1] : List Value).toArray s 0 0 (gA G) = Z at hend ⊢
  generalize ([.ref o, .int p1] : List Value).toArray = args at hts hend ⊢
  unfold f14_rowBy at hf
  refine lv_aload_n hx hb dX14_rowBy_0 rfl (lv_at hl 0 rfl) ?_
  refine lv_iconst (v := 0) hx hb dX14_rowBy_1 li_0 ?_
  refine n_puti (li' := [(1100, o, (0 : Int32))]) hx hb hts hown hG hR hS gPi_X14_148_11 shM.1 0 rfl rfl rfl dX14_rowBy_2 (fun H locs hR hS => ?_)
  refine lv_iload_n hx hb dX14_rowBy_5 rfl (lv_at hl 1 rfl) ?_
  refine lv_iconst (v := 0) hx hb dX14_rowBy_6 li_0 ?_
  refine lv_iconst (v := 5) hx hb dX14_rowBy_7 li_5 ?_
  obtain ⟨rr1, hrr1, hf⟩ := bind_s hf
  refine g0_cS (rm := (0, 0)) (As := [.int p1, .int (0 : Int32), .int (5 : Int32)]) (rest := []) ⟨hx, hb, hml, hown, hts⟩ hG hR hS (m14_isIn l G K (ov I [(1100, o, (0 : Int32))]) J X A B Q p1 (0 : Int32) (5 : Int32) rr1 hrr1) (cwS 3 hts gi_X14_219 rfl rfl rfl hd_X14_isIn ⟨Nat.le_of_ble_eq_true rfl, Nat.le_of_ble_eq_true rfl⟩) rfl hl.1 (Nat.le_of_ble_eq_true rfl) dX14_rowBy_8 ⟨Nat.le_refl _, Nat.le_refl _⟩ rfl (fun H locs hR hS => ?_)
  refine lv_if_eq (tgt := 23) hx hb dX14_rowBy_11 (by decide) (fun c2 => ?_) (fun c2 => ?_)
  · have hf := ite_t c2 hf
    refine lv_iconst (v := -1) hx hb dX14_rowBy_23 li_m1 ?_
    obtain rfl := some_i hf
    exact hend _ _ _ _ dX14_rowBy_24 hR hS
  · have hf := ite_f c2 hf
    refine lv_aload_n hx hb dX14_rowBy_14 rfl (lv_at hl 0 rfl) ?_
    refine g_getr (b := (o + 19)) hx hb hts hown hG hR gFx_X14_66_11 shM.1 ((shM.2 18 _ rfl).2) dX14_rowBy_15 ?_
    refine lv_iload_n hx hb dX14_rowBy_18 rfl (lv_at hl 1 rfl) ?_
    obtain ⟨c3, hf⟩ := gd_some hf
    obtain ⟨v4, ev4, hf⟩ := lt_some hf
    refine n_iald (x := a_rowBy) hx hb hG hR k_a_rowBy c3 e_a_rowBy ev4 dX14_rowBy_19 ?_
    refine lv_goto (tgt := 24) hx hb dX14_rowBy_20 (by decide) ?_
    obtain rfl := some_i hf
    exact hend _ _ _ _ dX14_rowBy_24 hR hS
noncomputable def f14_done_j26  : Option (Int32 × Int32) :=
  some ((-1 : Int32), (0 : Int32))

noncomputable def f14_done (p1 : Int32) (i_thrown : Int32) (i_rowMany : Int32) (a_rowDone : Nat → Int32) : Option (Int32 × Int32) :=
  if p1 < 0 then
    f14_done_j26
  else
    if i_rowMany ≤ p1 then
      f14_done_j26
    else
      gd (inb p1 12) <|
      lt (a_rowDone p1.toNatClampNeg) fun v4 =>
      some (v4, (0 : Int32))
set_option maxHeartbeats 4000000 in
theorem m14_done (l : Launch) (G : gG) (K : gK) (I : gI) (J : gJ) (X : gX) (A : gI) (B : gJ) (Q : gX) (o : Nat) (shM : Sh K X o 11 rows11) (p1 : Int32) (i_thrown : Int32) (i_rowMany : Int32) (a_rowDone : Nat → Int32) (e_i_thrown : I 1100 o = i_thrown) (e_i_rowMany : I 1145 o = i_rowMany) (e_a_rowDone : A (o + 20) = a_rowDone) (out : Int32 × Int32) (hf : f14_done p1 i_thrown i_rowMany a_rowDone = some out) : GMet l yX14_done cX14_done 2 (some .int) (0) (0) G [.ref o, .int p1] K I J X A B Q (some (.int out.1)) K (ov I [(1100, o, out.2)]) J X A B Q 0 0 := by
  refine GMet.of (y := yX14_done) rfl (Nat.le_of_ble_eq_true rfl) rfl ?_
  intro p e s m below meth c ls hx hb hr hml hlocks hts hown hname hG hR hl
  have hown : s.vm.findClass RX14 = some m.cls := hown
  have k_a_rowDone : K (o + 20) = some (.inr (0, 12)) := (shM.2 19 _ rfl).1
  have hR : RS G K (ov I [(1100, o, i_thrown)]) J X A B Q s.heap := hR.to (Eq.symm (ov_sc e_i_thrown rfl)) rfl rfl rfl rfl rfl
  have hS : va_S (gA G) s.heap s.heap [] := va_S.rf
  have hend : ∀ (pc : Nat) (H : Heap) (locs : List Loc) (ls : Array Slot), decode cX14_done pc = .ok (.ireturn, 1) → RS G K (ov I [(1100, o, out.2)]) J X A B Q H → va_S (gA G) s.heap H locs → W p l e ({ frames := 0, cells := 0, slots := 0, locals := 0 } : Room) s m ([.ref o, .int p1] : List Value).toArray below meth c H locs 0 0 (MQ below (gQ G (some (.int out.1)) K (ov I [(1100, o, out.2)]) J X A B Q) ([.ref o, .int p1] : List Value).toArray s 0 0 (gA G)) (F0 m pc ls [.int out.1]) := fun pc H locs ls hd hR hS => g_iret hx hb hr hlocks hG hR hS rfl hd
  generalize MQ below (gQ G (some (.int out.1)) K (ov I [(1100, o, out.2)]) J X A B Q) ([.ref o, .int p1] : List Value).toArray s 0 0 (gA G) = Z at hend ⊢
  generalize ([.ref o, .int p1] : List Value).toArray = args at hts hend ⊢
  unfold f14_done at hf
  refine lv_aload_n hx hb dX14_done_0 rfl (lv_at hl 0 rfl) ?_
  refine lv_iconst (v := 0) hx hb dX14_done_1 li_0 ?_
  refine n_puti (li' := [(1100, o, (0 : Int32))]) hx hb hts hown hG hR hS gPi_X14_148_11 shM.1 0 rfl rfl rfl dX14_done_2 (fun H locs hR hS => ?_)
  refine lv_iload_n hx hb dX14_done_5 rfl (lv_at hl 1 rfl) ?_
  have hj26 : ∀ (_ : Unit), f14_done_j26 = some out → ∀ (H : Heap) (locs : List Loc) (ls : Array Slot), RS G K (ov I [(1100, o, (0 : Int32))]) J X A B Q H → va_S (gA G) s.heap H locs → lv_has ls 2 [(0, .ref o)] → W p l e ({ frames := 0, cells := 0, slots := 0, locals := 0 } : Room) s m args below meth c H locs 0 0 Z (F0 m 26 ls []) := by
    intro _ hf H locs ls hR hS hl
    unfold f14_done_j26 at hf
    refine lv_iconst (v := -1) hx hb dX14_done_26 li_m1 ?_
    obtain rfl := some_i hf
    exact hend _ _ _ _ dX14_done_27 hR hS
  refine lv_if_lt (tgt := 26) hx hb dX14_done_6 (by decide) (fun c1 => ?_) (fun c1 => ?_)
  · have hf := ite_t c1 hf
    exact hj26 () hf _ _ _ hR hS (lv_sub hl [0] rfl)
  · have hf := ite_f c1 hf
    refine lv_iload_n hx hb dX14_done_9 rfl (lv_at hl 1 rfl) ?_
    refine lv_aload_n hx hb dX14_done_10 rfl (lv_at hl 0 rfl) ?_
    refine n_geti (v := i_rowMany) hx hb hts hown hG hR gFi_X14_380_11 shM.1 ((congrFun (ov_no rfl) _).trans e_i_rowMany) dX14_done_11 ?_
    refine lv_icmp_ge (tgt := 26) hx hb dX14_done_14 (by decide) (fun c2 => ?_) (fun c2 => ?_)
    · have hf := ite_t c2 hf
      exact hj26 () hf _ _ _ hR hS (lv_sub hl [0] rfl)
    · have hf := ite_f c2 hf
      refine lv_aload_n hx hb dX14_done_17 rfl (lv_at hl 0 rfl) ?_
      refine g_getr (b := (o + 20)) hx hb hts hown hG hR gFx_X14_69_11 shM.1 ((shM.2 19 _ rfl).2) dX14_done_18 ?_
      refine lv_iload_n hx hb dX14_done_21 rfl (lv_at hl 1 rfl) ?_
      obtain ⟨c3, hf⟩ := gd_some hf
      obtain ⟨v4, ev4, hf⟩ := lt_some hf
      refine n_iald (x := a_rowDone) hx hb hG hR k_a_rowDone c3 e_a_rowDone ev4 dX14_done_22 ?_
      refine lv_goto (tgt := 27) hx hb dX14_done_23 (by decide) ?_
      obtain rfl := some_i hf
      exact hend _ _ _ _ dX14_done_27 hR hS
noncomputable def f14_bestAt_j26  : Option (Int32 × Int32) :=
  some ((-1 : Int32), (0 : Int32))

noncomputable def f14_bestAt (p1 : Int32) (i_thrown : Int32) (i_bestMany : Int32) (a_bestTold : Nat → Int32) : Option (Int32 × Int32) :=
  if p1 < 0 then
    f14_bestAt_j26
  else
    if i_bestMany ≤ p1 then
      f14_bestAt_j26
    else
      gd (inb p1 7) <|
      lt (a_bestTold p1.toNatClampNeg) fun v4 =>
      some (v4, (0 : Int32))
set_option maxHeartbeats 4000000 in
theorem m14_bestAt (l : Launch) (G : gG) (K : gK) (I : gI) (J : gJ) (X : gX) (A : gI) (B : gJ) (Q : gX) (o : Nat) (shM : Sh K X o 11 rows11) (p1 : Int32) (i_thrown : Int32) (i_bestMany : Int32) (a_bestTold : Nat → Int32) (e_i_thrown : I 1100 o = i_thrown) (e_i_bestMany : I 1151 o = i_bestMany) (e_a_bestTold : A (o + 24) = a_bestTold) (out : Int32 × Int32) (hf : f14_bestAt p1 i_thrown i_bestMany a_bestTold = some out) : GMet l yX14_bestAt cX14_bestAt 2 (some .int) (0) (0) G [.ref o, .int p1] K I J X A B Q (some (.int out.1)) K (ov I [(1100, o, out.2)]) J X A B Q 0 0 := by
  refine GMet.of (y := yX14_bestAt) rfl (Nat.le_of_ble_eq_true rfl) rfl ?_
  intro p e s m below meth c ls hx hb hr hml hlocks hts hown hname hG hR hl
  have hown : s.vm.findClass RX14 = some m.cls := hown
  have k_a_bestTold : K (o + 24) = some (.inr (0, 7)) := (shM.2 23 _ rfl).1
  have hR : RS G K (ov I [(1100, o, i_thrown)]) J X A B Q s.heap := hR.to (Eq.symm (ov_sc e_i_thrown rfl)) rfl rfl rfl rfl rfl
  have hS : va_S (gA G) s.heap s.heap [] := va_S.rf
  have hend : ∀ (pc : Nat) (H : Heap) (locs : List Loc) (ls : Array Slot), decode cX14_bestAt pc = .ok (.ireturn, 1) → RS G K (ov I [(1100, o, out.2)]) J X A B Q H → va_S (gA G) s.heap H locs → W p l e ({ frames := 0, cells := 0, slots := 0, locals := 0 } : Room) s m ([.ref o, .int p1] : List Value).toArray below meth c H locs 0 0 (MQ below (gQ G (some (.int out.1)) K (ov I [(1100, o, out.2)]) J X A B Q) ([.ref o, .int p1] : List Value).toArray s 0 0 (gA G)) (F0 m pc ls [.int out.1]) := fun pc H locs ls hd hR hS => g_iret hx hb hr hlocks hG hR hS rfl hd
  generalize MQ below (gQ G (some (.int out.1)) K (ov I [(1100, o, out.2)]) J X A B Q) ([.ref o, .int p1] : List Value).toArray s 0 0 (gA G) = Z at hend ⊢
  generalize ([.ref o, .int p1] : List Value).toArray = args at hts hend ⊢
  unfold f14_bestAt at hf
  refine lv_aload_n hx hb dX14_bestAt_0 rfl (lv_at hl 0 rfl) ?_
  refine lv_iconst (v := 0) hx hb dX14_bestAt_1 li_0 ?_
  refine n_puti (li' := [(1100, o, (0 : Int32))]) hx hb hts hown hG hR hS gPi_X14_148_11 shM.1 0 rfl rfl rfl dX14_bestAt_2 (fun H locs hR hS => ?_)
  refine lv_iload_n hx hb dX14_bestAt_5 rfl (lv_at hl 1 rfl) ?_
  have hj26 : ∀ (_ : Unit), f14_bestAt_j26 = some out → ∀ (H : Heap) (locs : List Loc) (ls : Array Slot), RS G K (ov I [(1100, o, (0 : Int32))]) J X A B Q H → va_S (gA G) s.heap H locs → lv_has ls 2 [(0, .ref o)] → W p l e ({ frames := 0, cells := 0, slots := 0, locals := 0 } : Room) s m args below meth c H locs 0 0 Z (F0 m 26 ls []) := by
    intro _ hf H locs ls hR hS hl
    unfold f14_bestAt_j26 at hf
    refine lv_iconst (v := -1) hx hb dX14_bestAt_26 li_m1 ?_
    obtain rfl := some_i hf
    exact hend _ _ _ _ dX14_bestAt_27 hR hS
  refine lv_if_lt (tgt := 26) hx hb dX14_bestAt_6 (by decide) (fun c1 => ?_) (fun c1 => ?_)
  · have hf := ite_t c1 hf
    exact hj26 () hf _ _ _ hR hS (lv_sub hl [0] rfl)
  · have hf := ite_f c1 hf
    refine lv_iload_n hx hb dX14_bestAt_9 rfl (lv_at hl 1 rfl) ?_
    refine lv_aload_n hx hb dX14_bestAt_10 rfl (lv_at hl 0 rfl) ?_
    refine n_geti (v := i_bestMany) hx hb hts hown hG hR gFi_X14_396_11 shM.1 ((congrFun (ov_no rfl) _).trans e_i_bestMany) dX14_bestAt_11 ?_
    refine lv_icmp_ge (tgt := 26) hx hb dX14_bestAt_14 (by decide) (fun c2 => ?_) (fun c2 => ?_)
    · have hf := ite_t c2 hf
      exact hj26 () hf _ _ _ hR hS (lv_sub hl [0] rfl)
    · have hf := ite_f c2 hf
      refine lv_aload_n hx hb dX14_bestAt_17 rfl (lv_at hl 0 rfl) ?_
      refine g_getr (b := (o + 24)) hx hb hts hown hG hR gFx_X14_81_11 shM.1 ((shM.2 23 _ rfl).2) dX14_bestAt_18 ?_
      refine lv_iload_n hx hb dX14_bestAt_21 rfl (lv_at hl 1 rfl) ?_
      obtain ⟨c3, hf⟩ := gd_some hf
      obtain ⟨v4, ev4, hf⟩ := lt_some hf
      refine n_iald (x := a_bestTold) hx hb hG hR k_a_bestTold c3 e_a_bestTold ev4 dX14_bestAt_22 ?_
      refine lv_goto (tgt := 27) hx hb dX14_bestAt_23 (by decide) ?_
      obtain rfl := some_i hf
      exact hend _ _ _ _ dX14_bestAt_27 hR hS
noncomputable def f14_moreAt_j26  : Option (Int32 × Int32) :=
  some ((-1 : Int32), (0 : Int32))

noncomputable def f14_moreAt (p1 : Int32) (i_thrown : Int32) (i_besideMany : Int32) (a_besideTold : Nat → Int32) : Option (Int32 × Int32) :=
  if p1 < 0 then
    f14_moreAt_j26
  else
    if i_besideMany ≤ p1 then
      f14_moreAt_j26
    else
      gd (inb p1 12) <|
      lt (a_besideTold p1.toNatClampNeg) fun v4 =>
      some (v4, (0 : Int32))
set_option maxHeartbeats 4000000 in
theorem m14_moreAt (l : Launch) (G : gG) (K : gK) (I : gI) (J : gJ) (X : gX) (A : gI) (B : gJ) (Q : gX) (o : Nat) (shM : Sh K X o 11 rows11) (p1 : Int32) (i_thrown : Int32) (i_besideMany : Int32) (a_besideTold : Nat → Int32) (e_i_thrown : I 1100 o = i_thrown) (e_i_besideMany : I 1155 o = i_besideMany) (e_a_besideTold : A (o + 26) = a_besideTold) (out : Int32 × Int32) (hf : f14_moreAt p1 i_thrown i_besideMany a_besideTold = some out) : GMet l yX14_moreAt cX14_moreAt 2 (some .int) (0) (0) G [.ref o, .int p1] K I J X A B Q (some (.int out.1)) K (ov I [(1100, o, out.2)]) J X A B Q 0 0 := by
  refine GMet.of (y := yX14_moreAt) rfl (Nat.le_of_ble_eq_true rfl) rfl ?_
  intro p e s m below meth c ls hx hb hr hml hlocks hts hown hname hG hR hl
  have hown : s.vm.findClass RX14 = some m.cls := hown
  have k_a_besideTold : K (o + 26) = some (.inr (0, 12)) := (shM.2 25 _ rfl).1
  have hR : RS G K (ov I [(1100, o, i_thrown)]) J X A B Q s.heap := hR.to (Eq.symm (ov_sc e_i_thrown rfl)) rfl rfl rfl rfl rfl
  have hS : va_S (gA G) s.heap s.heap [] := va_S.rf
  have hend : ∀ (pc : Nat) (H : Heap) (locs : List Loc) (ls : Array Slot), decode cX14_moreAt pc = .ok (.ireturn, 1) → RS G K (ov I [(1100, o, out.2)]) J X A B Q H → va_S (gA G) s.heap H locs → W p l e ({ frames := 0, cells := 0, slots := 0, locals := 0 } : Room) s m ([.ref o, .int p1] : List Value).toArray below meth c H locs 0 0 (MQ below (gQ G (some (.int out.1)) K (ov I [(1100, o, out.2)]) J X A B Q) ([.ref o, .int p1] : List Value).toArray s 0 0 (gA G)) (F0 m pc ls [.int out.1]) := fun pc H locs ls hd hR hS => g_iret hx hb hr hlocks hG hR hS rfl hd
  generalize MQ below (gQ G (some (.int out.1)) K (ov I [(1100, o, out.2)]) J X A B Q) ([.ref o, .int p1] : List Value).toArray s 0 0 (gA G) = Z at hend ⊢
  generalize ([.ref o, .int p1] : List Value).toArray = args at hts hend ⊢
  unfold f14_moreAt at hf
  refine lv_aload_n hx hb dX14_moreAt_0 rfl (lv_at hl 0 rfl) ?_
  refine lv_iconst (v := 0) hx hb dX14_moreAt_1 li_0 ?_
  refine n_puti (li' := [(1100, o, (0 : Int32))]) hx hb hts hown hG hR hS gPi_X14_148_11 shM.1 0 rfl rfl rfl dX14_moreAt_2 (fun H locs hR hS => ?_)
  refine lv_iload_n hx hb dX14_moreAt_5 rfl (lv_at hl 1 rfl) ?_
  have hj26 : ∀ (_ : Unit), f14_moreAt_j26 = some out → ∀ (H : Heap) (locs : List Loc) (ls : Array Slot), RS G K (ov I [(1100, o, (0 : Int32))]) J X A B Q H → va_S (gA G) s.heap H locs → lv_has ls 2 [(0, .ref o)] → W p l e ({ frames := 0, cells := 0, slots := 0, locals := 0 } : Room) s m args below meth c H locs 0 0 Z (F0 m 26 ls []) := by
    intro _ hf H locs ls hR hS hl
    unfold f14_moreAt_j26 at hf
    refine lv_iconst (v := -1) hx hb dX14_moreAt_26 li_m1 ?_
    obtain rfl := some_i hf
    exact hend _ _ _ _ dX14_moreAt_27 hR hS
  refine lv_if_lt (tgt := 26) hx hb dX14_moreAt_6 (by decide) (fun c1 => ?_) (fun c1 => ?_)
  · have hf := ite_t c1 hf
    exact hj26 () hf _ _ _ hR hS (lv_sub hl [0] rfl)
  · have hf := ite_f c1 hf
    refine lv_iload_n hx hb dX14_moreAt_9 rfl (lv_at hl 1 rfl) ?_
    refine lv_aload_n hx hb dX14_moreAt_10 rfl (lv_at hl 0 rfl) ?_
    refine n_geti (v := i_besideMany) hx hb hts hown hG hR gFi_X14_405_11 shM.1 ((congrFun (ov_no rfl) _).trans e_i_besideMany) dX14_moreAt_11 ?_
    refine lv_icmp_ge (tgt := 26) hx hb dX14_moreAt_14 (by decide) (fun c2 => ?_) (fun c2 => ?_)
    · have hf := ite_t c2 hf
      exact hj26 () hf _ _ _ hR hS (lv_sub hl [0] rfl)
    · have hf := ite_f c2 hf
      refine lv_aload_n hx hb dX14_moreAt_17 rfl (lv_at hl 0 rfl) ?_
      refine g_getr (b := (o + 26)) hx hb hts hown hG hR gFx_X14_87_11 shM.1 ((shM.2 25 _ rfl).2) dX14_moreAt_18 ?_
      refine lv_iload_n hx hb dX14_moreAt_21 rfl (lv_at hl 1 rfl) ?_
      obtain ⟨c3, hf⟩ := gd_some hf
      obtain ⟨v4, ev4, hf⟩ := lt_some hf
      refine n_iald (x := a_besideTold) hx hb hG hR k_a_besideTold c3 e_a_besideTold ev4 dX14_moreAt_22 ?_
      refine lv_goto (tgt := 27) hx hb dX14_moreAt_23 (by decide) ?_
      obtain rfl := some_i hf
      exact hend _ _ _ _ dX14_moreAt_27 hR hS
noncomputable def f14_canThrow_e2_0 (x2_0 : Int32 × (Nat → Int32)) : Option (Int32 × (Nat → Int32)) :=
  some x2_0

noncomputable def f14_canThrow_e14_0 (w2_2 : Int32) (x14_0 : (Nat → Int32)) : Option ((Int32 × (Nat → Int32)) ⊕ (Int32 × (Nat → Int32))) :=
  lt (w2_2 + (1 : Int32)) fun v15 =>
  some (.inl (v15, x14_0))

noncomputable def f14_canThrow_j112 (w14_4 : Int32) (j112_a_power : Nat → Int32) : Option ((Int32 × (Nat → Int32)) ⊕ ((Nat → Int32))) :=
  lt (w14_4 + (1 : Int32)) fun v17 =>
  some (.inl (v17, j112_a_power))

noncomputable def f14_canThrow_s14 (p1 : Int32) (a_now : Nat → Int32) (a_team : Nat → Int32) (v4 : Int32) (w14_4 : Int32) (w14_a_power : Nat → Int32) : Option ((Int32 × (Nat → Int32)) ⊕ ((Nat → Int32))) :=
  if p1 ≤ w14_4 then
    some (.inr w14_a_power)
  else
    if w14_4 = v4 then
      f14_canThrow_j112 w14_4 w14_a_power
    else
      gd (inb w14_4 12) <|
      lt (w14_a_power w14_4.toNatClampNeg) fun v20 =>
      gd (inb w14_4 12) <|
      lt (a_team w14_4.toNatClampNeg) fun v22 =>
      (f14_manOf v22 (2 : Int32) a_now).bind fun rr23 =>
      if rr23 ≤ v20 then
        f14_canThrow_j112 w14_4 w14_a_power
      else
        gd (inb w14_4 12) <|
        lt (w14_a_power w14_4.toNatClampNeg) fun v26 =>
        lt (v26 + (1 : Int32)) fun v27 =>
        gd (inb w14_4 12) <|
        lt (upd w14_a_power w14_4.toNatClampNeg v27) fun u29 =>
        f14_canThrow_j112 w14_4 u29

noncomputable def f14_canThrow_s2 (p1 : Int32) (a_now : Nat → Int32) (a_team : Nat → Int32) (w2_2 : Int32) (w2_a_power : Nat → Int32) : Option ((Int32 × (Nat → Int32)) ⊕ (Int32 × (Nat → Int32))) :=
  if (60 : Int32) ≤ w2_2 then
    some (.inr ((1 : Int32), w2_a_power))
  else
    gd (¬ p1 = 0) <|
    lt (w2_2 - w2_2 / p1 * p1) fun v4 =>
    gd (inb v4 12) <|
    lt (w2_a_power v4.toNatClampNeg) fun v7 =>
    if (3 : Int32) ≤ v7 then
      gd (inb v4 12) <|
      lt (w2_a_power v4.toNatClampNeg) fun v10 =>
      lt (v10 - (3 : Int32)) fun v11 =>
      gd (inb v4 12) <|
      lt (upd w2_a_power v4.toNatClampNeg v11) fun u13 =>
      (whl (fun (s14 : Int32 × (Nat → Int32)) => f14_canThrow_s14 p1 a_now a_team v4 s14.1 s14.2) FU ((0 : Int32), u13)).bind fun rl14 =>
      f14_canThrow_e14_0 w2_2 rl14
    else
      some (.inr ((0 : Int32), w2_a_power))

noncomputable def f14_canThrow_e1_0 (p1 : Int32) (a_now : Nat → Int32) (a_team : Nat → Int32) (x1_0 : (Nat → Int32)) : Option (Int32 × (Nat → Int32)) :=
  (whl (fun (s2 : Int32 × (Nat → Int32)) => f14_canThrow_s2 p1 a_now a_team s2.1 s2.2) FU ((0 : Int32), x1_0)).bind fun rl2 =>
  f14_canThrow_e2_0 rl2

noncomputable def f14_canThrow_s1 (p1 : Int32) (a_now : Nat → Int32) (a_team : Nat → Int32) (w1_2 : Int32) (w1_a_power : Nat → Int32) : Option ((Int32 × (Nat → Int32)) ⊕ ((Nat → Int32))) :=
  if p1 ≤ w1_2 then
    some (.inr w1_a_power)
  else
    gd (inb w1_2 12) <|
    lt (a_team w1_2.toNatClampNeg) fun v32 =>
    (f14_manOf v32 (2 : Int32) a_now).bind fun rr33 =>
    gd (inb w1_2 12) <|
    lt (upd w1_a_power w1_2.toNatClampNeg rr33) fun u35 =>
    lt (w1_2 + (1 : Int32)) fun v36 =>
    some (.inl (v36, u35))

noncomputable def f14_canThrow (p1 : Int32) (a_now : Nat → Int32) (a_team : Nat → Int32) (a_power : Nat → Int32) : Option (Int32 × (Nat → Int32)) :=
  (whl (fun (s1 : Int32 × (Nat → Int32)) => f14_canThrow_s1 p1 a_now a_team s1.1 s1.2) FU ((0 : Int32), a_power)).bind fun rl1 =>
  f14_canThrow_e1_0 p1 a_now a_team rl1
set_option maxHeartbeats 4000000 in
theorem m14_canThrow (l : Launch) (G : gG) (K : gK) (I : gI) (J : gJ) (X : gX) (A : gI) (B : gJ) (Q : gX) (o : Nat) (shM : Sh K X o 11 rows11) (p1 : Int32) (a_now : Nat → Int32) (a_team : Nat → Int32) (a_power : Nat → Int32) (e_a_now : A (o + 2) = a_now) (e_a_team : A (o + 10) = a_team) (e_a_power : A (o + 27) = a_power) (out : Int32 × (Nat → Int32)) (hf : f14_canThrow p1 a_now a_team a_power = some out) : GMet l yX14_canThrow cX14_canThrow 5 (some .boolean) (1) (22) G [.ref o, .int p1] K I J X A B Q (some (.int out.1)) K I J X (ova A [((o + 2), a_now), ((o + 10), a_team), ((o + 27), out.2)]) B Q 0 0 := by
  refine GMet.of (y := yX14_canThrow) rfl (Nat.le_of_ble_eq_true rfl) rfl ?_
  intro p e s m below meth c ls hx hb hr hml hlocks hts hown hname hG hR hl
  have hown : s.vm.findClass RX14 = some m.cls := hown
  have k_a_now : K (o + 2) = some (.inr (0, 800)) := (shM.2 1 _ rfl).1
  have k_a_team : K (o + 10) = some (.inr (0, 12)) := (shM.2 9 _ rfl).1
  have k_a_power : K (o + 27) = some (.inr (0, 12)) := (shM.2 26 _ rfl).1
  have hN_A : nda [(o + 2), (o + 10), (o + 27)] := nd_off o [2, 10, 27] rfl
  have hR : RS G K I J X (ova A [((o + 2), a_now), ((o + 10), a_team), ((o + 27), a_power)]) B Q s.heap := hR.to rfl rfl rfl (Eq.symm (ova_sc e_a_now (ova_sc e_a_team (ova_sc e_a_power rfl)))) rfl rfl
  have hS : va_S (gA G) s.heap s.heap [] := va_S.rf
  have hend : ∀ (pc : Nat) (H : Heap) (locs : List Loc) (ls : Array Slot), decode cX14_canThrow pc = .ok (.ireturn, 1) → narrow .boolean (.int out.1) = .int out.1 → RS G K I J X (ova A [((o + 2), a_now), ((o + 10), a_team), ((o + 27), out.2)]) B Q H → va_S (gA G) s.heap H locs → W p l e ({ frames := 1, cells := 0, slots := 0, locals := 22 } : Room) s m ([.ref o, .int p1] : List Value).toArray below meth c H locs 0 0 (MQ below (gQ G (some (.int out.1)) K I J X (ova A [((o + 2), a_now), ((o + 10), a_team), ((o + 27), out.2)]) B Q) ([.ref o, .int p1] : List Value).toArray s 0 0 (gA G)) (F0 m pc ls [.int out.1]) := fun pc H locs ls hd hz hR hS => g_zret hx hb hr hlocks hz hG hR hS rfl hd
  generalize MQ below (gQ G (some (.int out.1)) K I J X (ova A [((o + 2), a_now), ((o + 10), a_team), ((o + 27), out.2)]) B Q) ([.ref o, .int p1] : List Value).toArray s 0 0 (gA G) = Z at hend ⊢
  generalize ([.ref o, .int p1] : List Value).toArray = args at hts hend ⊢
  unfold f14_canThrow at hf
  refine lv_iconst (v := 0) hx hb dX14_canThrow_0 li_0 ?_
  refine lv_istore_n (lv' := [(2, .int (0 : Int32)), (0, .ref o), (1, .int p1)]) hx hb dX14_canThrow_1 rfl hl (by decide) rfl (fun ls hl => ?_)
  obtain ⟨rl1, hw1, hfo1⟩ := bind_s hf
  have hx1_0 : ∀ (x1_0 : (Nat → Int32)), f14_canThrow_e1_0 p1 a_now a_team x1_0 = some out → ∀ (H : Heap) (locs : List Loc) (ls : Array Slot), RS G K I J X (ova A [((o + 2), a_now), ((o + 10), a_team), ((o + 27), x1_0)]) B Q H → va_S (gA G) s.heap H locs → lv_has ls 5 [(0, .ref o), (1, .int p1)] → W p l e ({ frames := 1, cells := 0, slots := 0, locals := 22 } : Room) s m args below meth c H locs 0 0 Z (F0 m 30 ls []) := by
    intro x1_0 hf H locs ls hR hS hl
    unfold f14_canThrow_e1_0 at hf
    refine lv_iconst (v := 0) hx hb dX14_canThrow_30 li_0 ?_
    refine lv_istore_n (lv' := [(2, .int (0 : Int32)), (0, .ref o), (1, .int p1)]) hx hb dX14_canThrow_31 rfl hl (by decide) rfl (fun ls hl => ?_)
    obtain ⟨rl2, hw2, hfo2⟩ := bind_s hf
    have hx2_0 : ∀ (x2_0 : Int32 × (Nat → Int32)), f14_canThrow_e2_0 x2_0 = some out → ∀ (pc : Nat) (H : Heap) (locs : List Loc) (ls : Array Slot), decode cX14_canThrow pc = .ok (.ireturn, 1) → narrow .boolean (.int x2_0.1) = .int x2_0.1 → RS G K I J X (ova A [((o + 2), a_now), ((o + 10), a_team), ((o + 27), x2_0.2)]) B Q H → va_S (gA G) s.heap H locs → W p l e ({ frames := 1, cells := 0, slots := 0, locals := 22 } : Room) s m args below meth c H locs 0 0 Z (F0 m pc ls [.int x2_0.1]) := by
      intro x2_0 hf pc H locs ls hd hz hR hS
      unfold f14_canThrow_e2_0 at hf
      obtain rfl := some_i hf
      exact hend _ _ _ _ hd hz hR hS
    refine whl_walk (P := fun (s2 : Int32 × (Nat → Int32)) => ∀ (H : Heap) (locs : List Loc) (ls : Array Slot), RS G K I J X (ova A [((o + 2), a_now), ((o + 10), a_team), ((o + 27), s2.2)]) B Q H → va_S (gA G) s.heap H locs → lv_has ls 5 [(0, .ref o), (1, .int p1), (2, .int s2.1)] → W p l e ({ frames := 1, cells := 0, slots := 0, locals := 22 } : Room) s m args below meth c H locs 0 0 Z (F0 m 32 ls [])) (r := rl2) ?_ FU _ hw2 _ _ _ hR hS (lv_sub hl [1, 2, 0] rfl)
    clear hR hS hl hf
    intro s2 o2 hf hk2 H locs ls hR hS hl
    obtain ⟨w2_2, w2_a_power⟩ := s2
    have hf : f14_canThrow_s2 p1 a_now a_team w2_2 w2_a_power = some o2 := hf
    have hR : RS G K I J X (ova A [((o + 2), a_now), ((o + 10), a_team), ((o + 27), w2_a_power)]) B Q H := hR
    have hl : lv_has ls 5 [(0, .ref o), (1, .int p1), (2, .int w2_2)] := hl
    unfold f14_canThrow_s2 at hf
    refine lv_iload_n hx hb dX14_canThrow_32 rfl (lv_at hl 2 rfl) ?_
    refine lv_bipush (v := 60) hx hb dX14_canThrow_33 lb_60 ?_
    refine lv_icmp_ge (tgt := 124) hx hb dX14_canThrow_35 (by decide) (fun c3 => ?_) (fun c3 => ?_)
    · have hf := ite_t c3 hf
      refine lv_iconst (v := 1) hx hb dX14_canThrow_124 li_1 ?_
      obtain rfl := some_i hf
      replace hk2 : _ = rl2 := hk2
      subst hk2
      exact hx2_0 ((1 : Int32), w2_a_power) hfo2 _ _ _ _ dX14_canThrow_125 nz_1 hR hS
    · have hf := ite_f c3 hf
      refine lv_iload_n hx hb dX14_canThrow_38 rfl (lv_at hl 2 rfl) ?_
      refine lv_iload_n hx hb dX14_canThrow_39 rfl (lv_at hl 1 rfl) ?_
      obtain ⟨c5, hf⟩ := gd_some hf
      obtain ⟨v4, ev4, hf⟩ := lt_some hf
      refine n_irem hx hb c5 ev4 dX14_canThrow_40 ?_
      refine lv_istore_n (lv' := [(3, .int v4), (0, .ref o), (1, .int p1), (2, .int w2_2)]) hx hb dX14_canThrow_41 rfl hl (by decide) rfl (fun ls hl => ?_)
      refine lv_aload_n hx hb dX14_canThrow_42 rfl (lv_at hl 1 rfl) ?_
      refine g_getr (b := (o + 27)) hx hb hts hown hG hR gFx_X14_90_11 shM.1 ((shM.2 26 _ rfl).2) dX14_canThrow_43 ?_
      refine lv_iload_n hx hb dX14_canThrow_46 rfl (lv_at hl 0 rfl) ?_
      obtain ⟨c6, hf⟩ := gd_some hf
      obtain ⟨v7, ev7, hf⟩ := lt_some hf
      refine n_iald (x := w2_a_power) hx hb hG hR k_a_power c6 (ova_get 2 hN_A rfl) ev7 dX14_canThrow_47 ?_
      refine lv_iconst (v := 3) hx hb dX14_canThrow_48 li_3 ?_
      refine lv_icmp_ge (tgt := 54) hx hb dX14_canThrow_49 (by decide) (fun c8 => ?_) (fun c8 => ?_)
      · have hf := ite_t c8 hf
        refine lv_aload_n hx hb dX14_canThrow_54 rfl (lv_at hl 1 rfl) ?_
        refine g_getr (b := (o + 27)) hx hb hts hown hG hR gFx_X14_90_11 shM.1 ((shM.2 26 _ rfl).2) dX14_canThrow_55 ?_
        refine lv_iload_n hx hb dX14_canThrow_58 rfl (lv_at hl 0 rfl) ?_
        refine lv_dup2_11 hx hb dX14_canThrow_59 rfl rfl ?_
        obtain ⟨c9, hf⟩ := gd_some hf
        obtain ⟨v10, ev10, hf⟩ := lt_some hf
        refine n_iald (x := w2_a_power) hx hb hG hR k_a_power c9 (ova_get 2 hN_A rfl) ev10 dX14_canThrow_60 ?_
        refine lv_iconst (v := 3) hx hb dX14_canThrow_61 li_3 ?_
        obtain ⟨v11, ev11, hf⟩ := lt_some hf
        refine n_isub hx hb ev11 dX14_canThrow_62 ?_
        obtain ⟨c12, hf⟩ := gd_some hf
        obtain ⟨u13, eu13, hf⟩ := lt_some hf
        refine n_iast (la' := [((o + 2), a_now), ((o + 10), a_team), ((o + 27), u13)]) hx hb hG hR hS k_a_power c12 hN_A 2 rfl eu13 rfl dX14_canThrow_63 (fun H locs hR hS => ?_)
        refine lv_iconst (v := 0) hx hb dX14_canThrow_64 li_0 ?_
        refine lv_istore (lv' := [(4, .int (0 : Int32)), (3, .int v4), (0, .ref o), (1, .int p1), (2, .int w2_2)]) hx hb dX14_canThrow_65 hl (by decide) rfl (fun ls hl => ?_)
        obtain ⟨rl14, hw14, hfo14⟩ := bind_s hf
        have hx14_0 : ∀ (x14_0 : (Nat → Int32)), f14_canThrow_e14_0 w2_2 x14_0 = some o2 → ∀ (H : Heap) (locs : List Loc) (ls : Array Slot), RS G K I J X (ova A [((o + 2), a_now), ((o + 10), a_team), ((o + 27), x14_0)]) B Q H → va_S (gA G) s.heap H locs → lv_has ls 5 [(0, .ref o), (1, .int p1), (2, .int w2_2)] → W p l e ({ frames := 1, cells := 0, slots := 0, locals := 22 } : Room) s m args below meth c H locs 0 0 Z (F0 m 118 ls []) := by
          intro x14_0 hf H locs ls hR hS hl
          unfold f14_canThrow_e14_0 at hf
          obtain ⟨v15, ev15, hf⟩ := lt_some hf
          refine lv_iinc (k := 2) (v := v15) (lv' := [(2, .int v15), (0, .ref o), (1, .int p1)]) hx hb dX14_canThrow_118 hl rfl (by rw [ev15]; rfl) (by decide) rfl (fun ls hl => ?_)
          refine lv_goto (tgt := 32) hx hb dX14_canThrow_121 (by decide) ?_
          obtain rfl := some_i hf
          exact hk2 _ _ _ hR hS (lv_sub hl [1, 2, 0] rfl)
        refine whl_walk (P := fun (s14 : Int32 × (Nat → Int32)) => ∀ (H : Heap) (locs : List Loc) (ls : Array Slot), RS G K I J X (ova A [((o + 2), a_now), ((o + 10), a_team), ((o + 27), s14.2)]) B Q H → va_S (gA G) s.heap H locs → lv_has ls 5 [(0, .ref o), (1, .int p1), (2, .int w2_2), (3, .int v4), (4, .int s14.1)] → W p l e ({ frames := 1, cells := 0, slots := 0, locals := 22 } : Room) s m args below meth c H locs 0 0 Z (F0 m 67 ls [])) (r := rl14) ?_ FU _ hw14 _ _ _ hR hS (lv_sub hl [2, 3, 4, 1, 0] rfl)
        clear hR hS hl hf
        intro s14 o14 hf hk14 H locs ls hR hS hl
        obtain ⟨w14_4, w14_a_power⟩ := s14
        have hf : f14_canThrow_s14 p1 a_now a_team v4 w14_4 w14_a_power = some o14 := hf
        have hR : RS G K I J X (ova A [((o + 2), a_now), ((o + 10), a_team), ((o + 27), w14_a_power)]) B Q H := hR
        have hl : lv_has ls 5 [(0, .ref o), (1, .int p1), (2, .int w2_2), (3, .int v4), (4, .int w14_4)] := hl
        unfold f14_canThrow_s14 at hf
        refine lv_iload hx hb dX14_canThrow_67 (lv_at hl 4 rfl) ?_
        refine lv_iload_n hx hb dX14_canThrow_69 rfl (lv_at hl 1 rfl) ?_
        refine lv_icmp_ge (tgt := 118) hx hb dX14_canThrow_70 (by decide) (fun c16 => ?_) (fun c16 => ?_)
        · have hf := ite_t c16 hf
          obtain rfl := some_i hf
          replace hk14 : _ = rl14 := hk14
          subst hk14
          exact hx14_0 w14_a_power hfo14 _ _ _ hR hS (lv_sub hl [0, 1, 2] rfl)
        · have hf := ite_f c16 hf
          refine lv_iload hx hb dX14_canThrow_73 (lv_at hl 4 rfl) ?_
          refine lv_iload_n hx hb dX14_canThrow_75 rfl (lv_at hl 3 rfl) ?_
          have hj112 : ∀ (j112_a_power : Nat → Int32), f14_canThrow_j112 w14_4 j112_a_power = some o14 → ∀ (H : Heap) (locs : List Loc) (ls : Array Slot), RS G K I J X (ova A [((o + 2), a_now), ((o + 10), a_team), ((o + 27), j112_a_power)]) B Q H → va_S (gA G) s.heap H locs → lv_has ls 5 [(0, .ref o), (1, .int p1), (2, .int w2_2), (3, .int v4), (4, .int w14_4)] → W p l e ({ frames := 1, cells := 0, slots := 0, locals := 22 } : Room) s m args below meth c H locs 0 0 Z (F0 m 112 ls []) := by
            intro j112_a_power hf H locs ls hR hS hl
            unfold f14_canThrow_j112 at hf
            obtain ⟨v17, ev17, hf⟩ := lt_some hf
            refine lv_iinc (k := 4) (v := v17) (lv' := [(4, .int v17), (0, .ref o), (1, .int p1), (2, .int w2_2), (3, .int v4)]) hx hb dX14_canThrow_112 hl rfl (by rw [ev17]; rfl) (by decide) rfl (fun ls hl => ?_)
            refine lv_goto (tgt := 67) hx hb dX14_canThrow_115 (by decide) ?_
            obtain rfl := some_i hf
            exact hk14 _ _ _ hR hS (lv_sub hl [1, 2, 3, 4, 0] rfl)
          refine lv_icmp_eq (tgt := 112) hx hb dX14_canThrow_76 (by decide) (fun c18 => ?_) (fun c18 => ?_)
          · have hf := ite_t c18 hf
            exact hj112 w14_a_power hf _ _ _ hR hS (lv_sub hl [0, 1, 2, 3, 4] rfl)
          · have hf := ite_f c18 hf
            refine lv_aload_n hx hb dX14_canThrow_79 rfl (lv_at hl 0 rfl) ?_
            refine g_getr (b := (o + 27)) hx hb hts hown hG hR gFx_X14_90_11 shM.1 ((shM.2 26 _ rfl).2) dX14_canThrow_80 ?_
            refine lv_iload hx hb dX14_canThrow_83 (lv_at hl 4 rfl) ?_
            obtain ⟨c19, hf⟩ := gd_some hf
            obtain ⟨v20, ev20, hf⟩ := lt_some hf
            refine n_iald (x := w14_a_power) hx hb hG hR k_a_power c19 (ova_get 2 hN_A rfl) ev20 dX14_canThrow_85 ?_
            refine lv_aload_n hx hb dX14_canThrow_86 rfl (lv_at hl 0 rfl) ?_
            refine lv_aload_n hx hb dX14_canThrow_87 rfl (lv_at hl 0 rfl) ?_
            refine g_getr (b := (o + 10)) hx hb hts hown hG hR gFx_X14_39_11 shM.1 ((shM.2 9 _ rfl).2) dX14_canThrow_88 ?_
            refine lv_iload hx hb dX14_canThrow_91 (lv_at hl 4 rfl) ?_
            obtain ⟨c21, hf⟩ := gd_some hf
            obtain ⟨v22, ev22, hf⟩ := lt_some hf
            refine n_iald (x := a_team) hx hb hG hR k_a_team c21 (ova_get 1 hN_A rfl) ev22 dX14_canThrow_93 ?_
            refine lv_iconst (v := 2) hx hb dX14_canThrow_94 li_2 ?_
            obtain ⟨rr23, hrr23, hf⟩ := bind_s hf
            refine g0_cV (rm := (0, 0)) (As := [.int v22, .int (2 : Int32)]) (rest := [.int v20]) ⟨hx, hb, hml, hown, hts⟩ hG hR hS (m14_manOf l G K I J X (ova A [((o + 2), a_now), ((o + 10), a_team), ((o + 27), w14_a_power)]) B Q o shM v22 (2 : Int32) a_now (ova_get 0 hN_A rfl) rr23 hrr23) (cwV 2 hts gi_X14_294 rfl rfl rfl hd_X14_manOf ⟨Nat.le_of_ble_eq_true rfl, Nat.le_of_ble_eq_true rfl⟩) shM.1 rfl rfl hl.1 (Nat.le_of_ble_eq_true rfl) dX14_canThrow_95 ⟨Nat.le_refl _, Nat.le_refl _⟩ rfl (fun H locs hR hS => ?_)
            refine lv_icmp_ge (tgt := 112) hx hb dX14_canThrow_98 (by decide) (fun c24 => ?_) (fun c24 => ?_)
            · have hf := ite_t c24 hf
              exact hj112 w14_a_power hf _ _ _ hR hS (lv_sub hl [0, 1, 2, 3, 4] rfl)
            · have hf := ite_f c24 hf
              refine lv_aload_n hx hb dX14_canThrow_101 rfl (lv_at hl 0 rfl) ?_
              refine g_getr (b := (o + 27)) hx hb hts hown hG hR gFx_X14_90_11 shM.1 ((shM.2 26 _ rfl).2) dX14_canThrow_102 ?_
              refine lv_iload hx hb dX14_canThrow_105 (lv_at hl 4 rfl) ?_
              refine lv_dup2_11 hx hb dX14_canThrow_107 rfl rfl ?_
              obtain ⟨c25, hf⟩ := gd_some hf
              obtain ⟨v26, ev26, hf⟩ := lt_some hf
              refine n_iald (x := w14_a_power) hx hb hG hR k_a_power c25 (ova_get 2 hN_A rfl) ev26 dX14_canThrow_108 ?_
              refine lv_iconst (v := 1) hx hb dX14_canThrow_109 li_1 ?_
              obtain ⟨v27, ev27, hf⟩ := lt_some hf
              refine n_iadd hx hb ev27 dX14_canThrow_110 ?_
              obtain ⟨c28, hf⟩ := gd_some hf
              obtain ⟨u29, eu29, hf⟩ := lt_some hf
              refine n_iast (la' := [((o + 2), a_now), ((o + 10), a_team), ((o + 27), u29)]) hx hb hG hR hS k_a_power c28 hN_A 2 rfl eu29 rfl dX14_canThrow_111 (fun H locs hR hS => ?_)
              exact hj112 u29 hf _ _ _ hR hS (lv_sub hl [0, 1, 2, 3, 4] rfl)
      · have hf := ite_f c8 hf
        refine lv_iconst (v := 0) hx hb dX14_canThrow_52 li_0 ?_
        obtain rfl := some_i hf
        replace hk2 : _ = rl2 := hk2
        subst hk2
        exact hx2_0 ((0 : Int32), w2_a_power) hfo2 _ _ _ _ dX14_canThrow_53 nz_0 hR hS
  refine whl_walk (P := fun (s1 : Int32 × (Nat → Int32)) => ∀ (H : Heap) (locs : List Loc) (ls : Array Slot), RS G K I J X (ova A [((o + 2), a_now), ((o + 10), a_team), ((o + 27), s1.2)]) B Q H → va_S (gA G) s.heap H locs → lv_has ls 5 [(0, .ref o), (1, .int p1), (2, .int s1.1)] → W p l e ({ frames := 1, cells := 0, slots := 0, locals := 22 } : Room) s m args below meth c H locs 0 0 Z (F0 m 2 ls [])) (r := rl1) ?_ FU _ hw1 _ _ _ hR hS (lv_sub hl [1, 2, 0] rfl)
  clear hR hS hl hf
  intro s1 o1 hf hk1 H locs ls hR hS hl
  obtain ⟨w1_2, w1_a_power⟩ := s1
  have hf : f14_canThrow_s1 p1 a_now a_team w1_2 w1_a_power = some o1 := hf
  have hR : RS G K I J X (ova A [((o + 2), a_now), ((o + 10), a_team), ((o + 27), w1_a_power)]) B Q H := hR
  have hl : lv_has ls 5 [(0, .ref o), (1, .int p1), (2, .int w1_2)] := hl
  unfold f14_canThrow_s1 at hf
  refine lv_iload_n hx hb dX14_canThrow_2 rfl (lv_at hl 2 rfl) ?_
  refine lv_iload_n hx hb dX14_canThrow_3 rfl (lv_at hl 1 rfl) ?_
  refine lv_icmp_ge (tgt := 30) hx hb dX14_canThrow_4 (by decide) (fun c30 => ?_) (fun c30 => ?_)
  · have hf := ite_t c30 hf
    obtain rfl := some_i hf
    replace hk1 : _ = rl1 := hk1
    subst hk1
    exact hx1_0 w1_a_power hfo1 _ _ _ hR hS (lv_sub hl [0, 1] rfl)
  · have hf := ite_f c30 hf
    refine lv_aload_n hx hb dX14_canThrow_7 rfl (lv_at hl 0 rfl) ?_
    refine g_getr (b := (o + 27)) hx hb hts hown hG hR gFx_X14_90_11 shM.1 ((shM.2 26 _ rfl).2) dX14_canThrow_8 ?_
    refine lv_iload_n hx hb dX14_canThrow_11 rfl (lv_at hl 2 rfl) ?_
    refine lv_aload_n hx hb dX14_canThrow_12 rfl (lv_at hl 0 rfl) ?_
    refine lv_aload_n hx hb dX14_canThrow_13 rfl (lv_at hl 0 rfl) ?_
    refine g_getr (b := (o + 10)) hx hb hts hown hG hR gFx_X14_39_11 shM.1 ((shM.2 9 _ rfl).2) dX14_canThrow_14 ?_
    refine lv_iload_n hx hb dX14_canThrow_17 rfl (lv_at hl 2 rfl) ?_
    obtain ⟨c31, hf⟩ := gd_some hf
    obtain ⟨v32, ev32, hf⟩ := lt_some hf
    refine n_iald (x := a_team) hx hb hG hR k_a_team c31 (ova_get 1 hN_A rfl) ev32 dX14_canThrow_18 ?_
    refine lv_iconst (v := 2) hx hb dX14_canThrow_19 li_2 ?_
    obtain ⟨rr33, hrr33, hf⟩ := bind_s hf
    refine g0_cV (rm := (0, 0)) (As := [.int v32, .int (2 : Int32)]) (rest := [.int w1_2, .ref (o + 27)]) ⟨hx, hb, hml, hown, hts⟩ hG hR hS (m14_manOf l G K I J X (ova A [((o + 2), a_now), ((o + 10), a_team), ((o + 27), w1_a_power)]) B Q o shM v32 (2 : Int32) a_now (ova_get 0 hN_A rfl) rr33 hrr33) (cwV 2 hts gi_X14_294 rfl rfl rfl hd_X14_manOf ⟨Nat.le_of_ble_eq_true rfl, Nat.le_of_ble_eq_true rfl⟩) shM.1 rfl rfl hl.1 (Nat.le_of_ble_eq_true rfl) dX14_canThrow_20 ⟨Nat.le_refl _, Nat.le_refl _⟩ rfl (fun H locs hR hS => ?_)
    obtain ⟨c34, hf⟩ := gd_some hf
    obtain ⟨u35, eu35, hf⟩ := lt_some hf
    refine n_iast (la' := [((o + 2), a_now), ((o + 10), a_team), ((o + 27), u35)]) hx hb hG hR hS k_a_power c34 hN_A 2 rfl eu35 rfl dX14_canThrow_23 (fun H locs hR hS => ?_)
    obtain ⟨v36, ev36, hf⟩ := lt_some hf
    refine lv_iinc (k := 2) (v := v36) (lv' := [(2, .int v36), (0, .ref o), (1, .int p1)]) hx hb dX14_canThrow_24 hl rfl (by rw [ev36]; rfl) (by decide) rfl (fun ls hl => ?_)
    refine lv_goto (tgt := 2) hx hb dX14_canThrow_27 (by decide) ?_
    obtain rfl := some_i hf
    exact hk1 _ _ _ hR hS (lv_sub hl [1, 2, 0] rfl)
noncomputable def f14_hookAt_j26  : Option (Int32 × Int32) :=
  some ((-1 : Int32), (0 : Int32))

noncomputable def f14_hookAt (p1 : Int32) (i_thrown : Int32) (i_hookMany : Int32) (a_hookTold : Nat → Int32) : Option (Int32 × Int32) :=
  if p1 < 0 then
    f14_hookAt_j26
  else
    if i_hookMany ≤ p1 then
      f14_hookAt_j26
    else
      gd (inb p1 6) <|
      lt (a_hookTold p1.toNatClampNeg) fun v4 =>
      some (v4, (0 : Int32))
set_option maxHeartbeats 4000000 in
theorem m14_hookAt (l : Launch) (G : gG) (K : gK) (I : gI) (J : gJ) (X : gX) (A : gI) (B : gJ) (Q : gX) (o : Nat) (shM : Sh K X o 11 rows11) (p1 : Int32) (i_thrown : Int32) (i_hookMany : Int32) (a_hookTold : Nat → Int32) (e_i_thrown : I 1100 o = i_thrown) (e_i_hookMany : I 1163 o = i_hookMany) (e_a_hookTold : A (o + 31) = a_hookTold) (out : Int32 × Int32) (hf : f14_hookAt p1 i_thrown i_hookMany a_hookTold = some out) : GMet l yX14_hookAt cX14_hookAt 2 (some .int) (0) (0) G [.ref o, .int p1] K I J X A B Q (some (.int out.1)) K (ov I [(1100, o, out.2)]) J X A B Q 0 0 := by
  refine GMet.of (y := yX14_hookAt) rfl (Nat.le_of_ble_eq_true rfl) rfl ?_
  intro p e s m below meth c ls hx hb hr hml hlocks hts hown hname hG hR hl
  have hown : s.vm.findClass RX14 = some m.cls := hown
  have k_a_hookTold : K (o + 31) = some (.inr (0, 6)) := (shM.2 30 _ rfl).1
  have hR : RS G K (ov I [(1100, o, i_thrown)]) J X A B Q s.heap := hR.to (Eq.symm (ov_sc e_i_thrown rfl)) rfl rfl rfl rfl rfl
  have hS : va_S (gA G) s.heap s.heap [] := va_S.rf
  have hend : ∀ (pc : Nat) (H : Heap) (locs : List Loc) (ls : Array Slot), decode cX14_hookAt pc = .ok (.ireturn, 1) → RS G K (ov I [(1100, o, out.2)]) J X A B Q H → va_S (gA G) s.heap H locs → W p l e ({ frames := 0, cells := 0, slots := 0, locals := 0 } : Room) s m ([.ref o, .int p1] : List Value).toArray below meth c H locs 0 0 (MQ below (gQ G (some (.int out.1)) K (ov I [(1100, o, out.2)]) J X A B Q) ([.ref o, .int p1] : List Value).toArray s 0 0 (gA G)) (F0 m pc ls [.int out.1]) := fun pc H locs ls hd hR hS => g_iret hx hb hr hlocks hG hR hS rfl hd
  generalize MQ below (gQ G (some (.int out.1)) K (ov I [(1100, o, out.2)]) J X A B Q) ([.ref o, .int p1] : List Value).toArray s 0 0 (gA G) = Z at hend ⊢
  generalize ([.ref o, .int p1] : List Value).toArray = args at hts hend ⊢
  unfold f14_hookAt at hf
  refine lv_aload_n hx hb dX14_hookAt_0 rfl (lv_at hl 0 rfl) ?_
  refine lv_iconst (v := 0) hx hb dX14_hookAt_1 li_0 ?_
  refine n_puti (li' := [(1100, o, (0 : Int32))]) hx hb hts hown hG hR hS gPi_X14_148_11 shM.1 0 rfl rfl rfl dX14_hookAt_2 (fun H locs hR hS => ?_)
  refine lv_iload_n hx hb dX14_hookAt_5 rfl (lv_at hl 1 rfl) ?_
  have hj26 : ∀ (_ : Unit), f14_hookAt_j26 = some out → ∀ (H : Heap) (locs : List Loc) (ls : Array Slot), RS G K (ov I [(1100, o, (0 : Int32))]) J X A B Q H → va_S (gA G) s.heap H locs → lv_has ls 2 [(0, .ref o)] → W p l e ({ frames := 0, cells := 0, slots := 0, locals := 0 } : Room) s m args below meth c H locs 0 0 Z (F0 m 26 ls []) := by
    intro _ hf H locs ls hR hS hl
    unfold f14_hookAt_j26 at hf
    refine lv_iconst (v := -1) hx hb dX14_hookAt_26 li_m1 ?_
    obtain rfl := some_i hf
    exact hend _ _ _ _ dX14_hookAt_27 hR hS
  refine lv_if_lt (tgt := 26) hx hb dX14_hookAt_6 (by decide) (fun c1 => ?_) (fun c1 => ?_)
  · have hf := ite_t c1 hf
    exact hj26 () hf _ _ _ hR hS (lv_sub hl [0] rfl)
  · have hf := ite_f c1 hf
    refine lv_iload_n hx hb dX14_hookAt_9 rfl (lv_at hl 1 rfl) ?_
    refine lv_aload_n hx hb dX14_hookAt_10 rfl (lv_at hl 0 rfl) ?_
    refine n_geti (v := i_hookMany) hx hb hts hown hG hR gFi_X14_420_11 shM.1 ((congrFun (ov_no rfl) _).trans e_i_hookMany) dX14_hookAt_11 ?_
    refine lv_icmp_ge (tgt := 26) hx hb dX14_hookAt_14 (by decide) (fun c2 => ?_) (fun c2 => ?_)
    · have hf := ite_t c2 hf
      exact hj26 () hf _ _ _ hR hS (lv_sub hl [0] rfl)
    · have hf := ite_f c2 hf
      refine lv_aload_n hx hb dX14_hookAt_17 rfl (lv_at hl 0 rfl) ?_
      refine g_getr (b := (o + 31)) hx hb hts hown hG hR gFx_X14_102_11 shM.1 ((shM.2 30 _ rfl).2) dX14_hookAt_18 ?_
      refine lv_iload_n hx hb dX14_hookAt_21 rfl (lv_at hl 1 rfl) ?_
      obtain ⟨c3, hf⟩ := gd_some hf
      obtain ⟨v4, ev4, hf⟩ := lt_some hf
      refine n_iald (x := a_hookTold) hx hb hG hR k_a_hookTold c3 e_a_hookTold ev4 dX14_hookAt_22 ?_
      refine lv_goto (tgt := 27) hx hb dX14_hookAt_23 (by decide) ?_
      obtain rfl := some_i hf
      exact hend _ _ _ _ dX14_hookAt_27 hR hS
noncomputable def f14_isAim_j55  : Option (Int32) :=
  some (0 : Int32)

noncomputable def f14_isAim (p1 : Int32) (a_now : Nat → Int32) : Option (Int32) :=
  if (100 : Int32) ≤ p1 then
    if (177 : Int32) < p1 then
      f14_isAim_j55
    else
      lt (p1 - (100 : Int32)) fun v3 =>
      gd (¬ (10 : Int32) = 0) <|
      lt (v3 - v3 / (10 : Int32) * (10 : Int32)) fun v4 =>
      (f14_columns a_now).bind fun rr6 =>
      if rr6 ≤ v4 then
        f14_isAim_j55
      else
        lt (p1 - (100 : Int32)) fun v8 =>
        gd (¬ (10 : Int32) = 0) <|
        lt (v8 / (10 : Int32)) fun v9 =>
        gd (inb (10 : Int32) 800) <|
        lt (a_now (10 : Int32).toNatClampNeg) fun v12 =>
        if v12 ≤ v9 then
          f14_isAim_j55
        else
          some (1 : Int32)
  else
    (f14_isIn p1 (0 : Int32) (3 : Int32)).bind fun rr14 =>
    gd (rr14 &&& 1 = rr14) <|
    some rr14
set_option maxHeartbeats 4000000 in
theorem m14_isAim (l : Launch) (G : gG) (K : gK) (I : gI) (J : gJ) (X : gX) (A : gI) (B : gJ) (Q : gX) (o : Nat) (shM : Sh K X o 11 rows11) (p1 : Int32) (a_now : Nat → Int32) (e_a_now : A (o + 2) = a_now) (out : Int32) (hf : f14_isAim p1 a_now = some out) : GMet l yX14_isAim cX14_isAim 2 (some .boolean) (1) (22) G [.ref o, .int p1] K I J X A B Q (some (.int out)) K I J X A B Q 0 0 := by
  refine GMet.of (y := yX14_isAim) rfl (Nat.le_of_ble_eq_true rfl) rfl ?_
  intro p e s m below meth c ls hx hb hr hml hlocks hts hown hname hG hR hl
  have hown : s.vm.findClass RX14 = some m.cls := hown
  have k_a_now : K (o + 2) = some (.inr (0, 800)) := (shM.2 1 _ rfl).1
  have hR : RS G K I J X A B Q s.heap := hR.to rfl rfl rfl rfl rfl rfl
  have hS : va_S (gA G) s.heap s.heap [] := va_S.rf
  have hend : ∀ (pc : Nat) (H : Heap) (locs : List Loc) (ls : Array Slot), decode cX14_isAim pc = .ok (.ireturn, 1) → narrow .boolean (.int out) = .int out → RS G K I J X A B Q H → va_S (gA G) s.heap H locs → W p l e ({ frames := 1, cells := 0, slots := 0, locals := 22 } : Room) s m ([.ref o, .int p1] : List Value).toArray below meth c H locs 0 0 (MQ below (gQ G (some (.int out)) K I J X A B Q) ([.ref o, .int p1] : List Value).toArray s 0 0 (gA G)) (F0 m pc ls [.int out]) := fun pc H locs ls hd hz hR hS => g_zret hx hb hr hlocks hz hG hR hS rfl hd
  generalize MQ below (gQ G (some (.int out)) K I J X A B Q) ([.ref o, .int p1] : List Value).toArray s 0 0 (gA G) = Z at hend ⊢
  generalize ([.ref o, .int p1] : List Value).toArray = args at hts hend ⊢
  unfold f14_isAim at hf
  refine lv_iload_n hx hb dX14_isAim_0 rfl (lv_at hl 1 rfl) ?_
  refine lv_bipush (v := 100) hx hb dX14_isAim_1 lb_100 ?_
  refine lv_icmp_ge (tgt := 13) hx hb dX14_isAim_3 (by decide) (fun c1 => ?_) (fun c1 => ?_)
  · have hf := ite_t c1 hf
    refine lv_iload_n hx hb dX14_isAim_13 rfl (lv_at hl 1 rfl) ?_
    refine lv_sipush (v := 177) hx hb dX14_isAim_14 ls_177 ?_
    have hj55 : ∀ (_ : Unit), f14_isAim_j55 = some out → ∀ (H : Heap) (locs : List Loc) (ls : Array Slot), RS G K I J X A B Q H → va_S (gA G) s.heap H locs → lv_has ls 2 [(0, .ref o)] → W p l e ({ frames := 1, cells := 0, slots := 0, locals := 22 } : Room) s m args below meth c H locs 0 0 Z (F0 m 55 ls []) := by
      intro _ hf H locs ls hR hS hl
      unfold f14_isAim_j55 at hf
      refine lv_iconst (v := 0) hx hb dX14_isAim_55 li_0 ?_
      obtain rfl := some_i hf
      exact hend _ _ _ _ dX14_isAim_56 nz_0 hR hS
    refine lv_icmp_gt (tgt := 55) hx hb dX14_isAim_17 (by decide) (fun c2 => ?_) (fun c2 => ?_)
    · have hf := ite_t c2 hf
      exact hj55 () hf _ _ _ hR hS (lv_sub hl [0] rfl)
    · have hf := ite_f c2 hf
      refine lv_iload_n hx hb dX14_isAim_20 rfl (lv_at hl 1 rfl) ?_
      refine lv_bipush (v := 100) hx hb dX14_isAim_21 lb_100 ?_
      obtain ⟨v3, ev3, hf⟩ := lt_some hf
      refine n_isub hx hb ev3 dX14_isAim_23 ?_
      refine lv_bipush (v := 10) hx hb dX14_isAim_24 lb_10 ?_
      obtain ⟨c5, hf⟩ := gd_some hf
      obtain ⟨v4, ev4, hf⟩ := lt_some hf
      refine n_irem hx hb c5 ev4 dX14_isAim_26 ?_
      refine lv_aload_n hx hb dX14_isAim_27 rfl (lv_at hl 0 rfl) ?_
      obtain ⟨rr6, hrr6, hf⟩ := bind_s hf
      refine g0_cV (rm := (0, 0)) (As := []) (rest := [.int v4]) ⟨hx, hb, hml, hown, hts⟩ hG hR hS (m14_columns l G K I J X A B Q o shM a_now e_a_now rr6 hrr6) (cwV 0 hts gi_X14_298 rfl rfl rfl hd_X14_columns ⟨Nat.le_of_ble_eq_true rfl, Nat.le_of_ble_eq_true rfl⟩) shM.1 rfl rfl hl.1 (Nat.le_of_ble_eq_true rfl) dX14_isAim_28 ⟨Nat.le_refl _, Nat.le_refl _⟩ rfl (fun H locs hR hS => ?_)
      refine lv_icmp_ge (tgt := 55) hx hb dX14_isAim_31 (by decide) (fun c7 => ?_) (fun c7 => ?_)
      · have hf := ite_t c7 hf
        exact hj55 () hf _ _ _ hR hS (lv_sub hl [0] rfl)
      · have hf := ite_f c7 hf
        refine lv_iload_n hx hb dX14_isAim_34 rfl (lv_at hl 1 rfl) ?_
        refine lv_bipush (v := 100) hx hb dX14_isAim_35 lb_100 ?_
        obtain ⟨v8, ev8, hf⟩ := lt_some hf
        refine n_isub hx hb ev8 dX14_isAim_37 ?_
        refine lv_bipush (v := 10) hx hb dX14_isAim_38 lb_10 ?_
        obtain ⟨c10, hf⟩ := gd_some hf
        obtain ⟨v9, ev9, hf⟩ := lt_some hf
        refine n_idiv hx hb c10 ev9 dX14_isAim_40 ?_
        refine lv_aload_n hx hb dX14_isAim_41 rfl (lv_at hl 0 rfl) ?_
        refine g_getr (b := (o + 2)) hx hb hts hown hG hR gFx_X14_13_11 shM.1 ((shM.2 1 _ rfl).2) dX14_isAim_42 ?_
        refine lv_bipush (v := 10) hx hb dX14_isAim_45 lb_10 ?_
        obtain ⟨c11, hf⟩ := gd_some hf
        obtain ⟨v12, ev12, hf⟩ := lt_some hf
        refine n_iald (x := a_now) hx hb hG hR k_a_now c11 e_a_now ev12 dX14_isAim_47 ?_
        refine lv_icmp_ge (tgt := 55) hx hb dX14_isAim_48 (by decide) (fun c13 => ?_) (fun c13 => ?_)
        · have hf := ite_t c13 hf
          exact hj55 () hf _ _ _ hR hS (lv_sub hl [0] rfl)
        · have hf := ite_f c13 hf
          refine lv_iconst (v := 1) hx hb dX14_isAim_51 li_1 ?_
          refine lv_goto (tgt := 56) hx hb dX14_isAim_52 (by decide) ?_
          obtain rfl := some_i hf
          exact hend _ _ _ _ dX14_isAim_56 nz_1 hR hS
  · have hf := ite_f c1 hf
    refine lv_iload_n hx hb dX14_isAim_6 rfl (lv_at hl 1 rfl) ?_
    refine lv_iconst (v := 0) hx hb dX14_isAim_7 li_0 ?_
    refine lv_iconst (v := 3) hx hb dX14_isAim_8 li_3 ?_
    obtain ⟨rr14, hrr14, hf⟩ := bind_s hf
    refine g0_cS (rm := (0, 0)) (As := [.int p1, .int (0 : Int32), .int (3 : Int32)]) (rest := []) ⟨hx, hb, hml, hown, hts⟩ hG hR hS (m14_isIn l G K I J X A B Q p1 (0 : Int32) (3 : Int32) rr14 hrr14) (cwS 3 hts gi_X14_219 rfl rfl rfl hd_X14_isIn ⟨Nat.le_of_ble_eq_true rfl, Nat.le_of_ble_eq_true rfl⟩) rfl hl.1 (Nat.le_of_ble_eq_true rfl) dX14_isAim_9 ⟨Nat.le_refl _, Nat.le_refl _⟩ rfl (fun H locs hR hS => ?_)
    obtain ⟨hz9, hf⟩ := gd_some hf
    obtain rfl := some_i hf
    exact hend _ _ _ _ dX14_isAim_12 (congrArg Value.int hz9) hR hS
noncomputable def f14_cells (a_now : Nat → Int32) : Option (Int32) :=
  gd (inb (9 : Int32) 800) <|
  lt (a_now (9 : Int32).toNatClampNeg) fun v2 =>
  gd (inb (10 : Int32) 800) <|
  lt (a_now (10 : Int32).toNatClampNeg) fun v4 =>
  lt (v2 * v4) fun v5 =>
  some v5
set_option maxHeartbeats 4000000 in
theorem m14_cells (l : Launch) (G : gG) (K : gK) (I : gI) (J : gJ) (X : gX) (A : gI) (B : gJ) (Q : gX) (o : Nat) (shM : Sh K X o 11 rows11)  (a_now : Nat → Int32) (e_a_now : A (o + 2) = a_now) (out : Int32) (hf : f14_cells a_now = some out) : GMet l yX14_cells cX14_cells 1 (some .int) (0) (0) G [.ref o] K I J X A B Q (some (.int out)) K I J X A B Q 0 0 := by
  refine GMet.of (y := yX14_cells) rfl (Nat.le_of_ble_eq_true rfl) rfl ?_
  intro p e s m below meth c ls hx hb hr hml hlocks hts hown hname hG hR hl
  have hown : s.vm.findClass RX14 = some m.cls := hown
  have k_a_now : K (o + 2) = some (.inr (0, 800)) := (shM.2 1 _ rfl).1
  have hR : RS G K I J X A B Q s.heap := hR.to rfl rfl rfl rfl rfl rfl
  have hS : va_S (gA G) s.heap s.heap [] := va_S.rf
  have hend : ∀ (pc : Nat) (H : Heap) (locs : List Loc) (ls : Array Slot), decode cX14_cells pc = .ok (.ireturn, 1) → RS G K I J X A B Q H → va_S (gA G) s.heap H locs → W p l e ({ frames := 0, cells := 0, slots := 0, locals := 0 } : Room) s m ([.ref o] : List Value).toArray below meth c H locs 0 0 (MQ below (gQ G (some (.int out)) K I J X A B Q) ([.ref o] : List Value).toArray s 0 0 (gA G)) (F0 m pc ls [.int out]) := fun pc H locs ls hd hR hS => g_iret hx hb hr hlocks hG hR hS rfl hd
  generalize MQ below (gQ G (some (.int out)) K I J X A B Q) ([.ref o] : List Value).toArray s 0 0 (gA G) = Z at hend ⊢
  generalize ([.ref o] : List Value).toArray = args at hts hend ⊢
  unfold f14_cells at hf
  refine lv_aload_n hx hb dX14_cells_0 rfl (lv_at hl 0 rfl) ?_
  refine g_getr (b := (o + 2)) hx hb hts hown hG hR gFx_X14_13_11 shM.1 ((shM.2 1 _ rfl).2) dX14_cells_1 ?_
  refine lv_bipush (v := 9) hx hb dX14_cells_4 lb_9 ?_
  obtain ⟨c1, hf⟩ := gd_some hf
  obtain ⟨v2, ev2, hf⟩ := lt_some hf
  refine n_iald (x := a_now) hx hb hG hR k_a_now c1 e_a_now ev2 dX14_cells_6 ?_
  refine lv_aload_n hx hb dX14_cells_7 rfl (lv_at hl 0 rfl) ?_
  refine g_getr (b := (o + 2)) hx hb hts hown hG hR gFx_X14_13_11 shM.1 ((shM.2 1 _ rfl).2) dX14_cells_8 ?_
  refine lv_bipush (v := 10) hx hb dX14_cells_11 lb_10 ?_
  obtain ⟨c3, hf⟩ := gd_some hf
  obtain ⟨v4, ev4, hf⟩ := lt_some hf
  refine n_iald (x := a_now) hx hb hG hR k_a_now c3 e_a_now ev4 dX14_cells_13 ?_
  obtain ⟨v5, ev5, hf⟩ := lt_some hf
  refine n_imul hx hb ev5 dX14_cells_14 ?_
  obtain rfl := some_i hf
  exact hend _ _ _ _ dX14_cells_15 hR hS
noncomputable def f14_burning_e1_0 (x1_0 : Int32) : Option (Int32) :=
  some x1_0

noncomputable def f14_burning_s1 (a_now : Nat → Int32) (a_burn : Nat → Int32) (w1_1 : Int32) (w1_2 : Int32) : Option ((Int32 × Int32) ⊕ (Int32)) :=
  (f14_cells a_now).bind fun rr2 =>
  if rr2 ≤ w1_2 then
    some (.inr w1_1)
  else
    gd (inb w1_2 64) <|
    lt (a_burn w1_2.toNatClampNeg) fun v5 =>
    lt (w1_1 + v5) fun v6 =>
    lt (w1_2 + (1 : Int32)) fun v7 =>
    some (.inl (v6, v7))

noncomputable def f14_burning (a_now : Nat → Int32) (a_burn : Nat → Int32) : Option (Int32) :=
  (whl (fun (s1 : Int32 × Int32) => f14_burning_s1 a_now a_burn s1.1 s1.2) FU ((0 : Int32), (0 : Int32))).bind fun rl1 =>
  f14_burning_e1_0 rl1
set_option maxHeartbeats 4000000 in
theorem m14_burning (l : Launch) (G : gG) (K : gK) (I : gI) (J : gJ) (X : gX) (A : gI) (B : gJ) (Q : gX) (o : Nat) (shM : Sh K X o 11 rows11)  (a_now : Nat → Int32) (a_burn : Nat → Int32) (e_a_now : A (o + 2) = a_now) (e_a_burn : A (o + 33) = a_burn) (out : Int32) (hf : f14_burning a_now a_burn = some out) : GMet l yX14_burning cX14_burning 3 (some .int) (1) (20) G [.ref o] K I J X A B Q (some (.int out)) K I J X A B Q 0 0 := by
  refine GMet.of (y := yX14_burning) rfl (Nat.le_of_ble_eq_true rfl) rfl ?_
  intro p e s m below meth c ls hx hb hr hml hlocks hts hown hname hG hR hl
  have hown : s.vm.findClass RX14 = some m.cls := hown
  have k_a_now : K (o + 2) = some (.inr (0, 800)) := (shM.2 1 _ rfl).1
  have k_a_burn : K (o + 33) = some (.inr (0, 64)) := (shM.2 32 _ rfl).1
  have hR : RS G K I J X A B Q s.heap := hR.to rfl rfl rfl rfl rfl rfl
  have hS : va_S (gA G) s.heap s.heap [] := va_S.rf
  have hend : ∀ (pc : Nat) (H : Heap) (locs : List Loc) (ls : Array Slot), decode cX14_burning pc = .ok (.ireturn, 1) → RS G K I J X A B Q H → va_S (gA G) s.heap H locs → W p l e ({ frames := 1, cells := 0, slots := 0, locals := 20 } : Room) s m ([.ref o] : List Value).toArray below meth c H locs 0 0 (MQ below (gQ G (some (.int out)) K I J X A B Q) ([.ref o] : List Value).toArray s 0 0 (gA G)) (F0 m pc ls [.int out]) := fun pc H locs ls hd hR hS => g_iret hx hb hr hlocks hG hR hS rfl hd
  generalize MQ below (gQ G (some (.int out)) K I J X A B Q) ([.ref o] : List Value).toArray s 0 0 (gA G) = Z at hend ⊢
  generalize ([.ref o] : List Value).toArray = args at hts hend ⊢
  unfold f14_burning at hf
  refine lv_iconst (v := 0) hx hb dX14_burning_0 li_0 ?_
  refine lv_istore_n (lv' := [(1, .int (0 : Int32)), (0, .ref o)]) hx hb dX14_burning_1 rfl hl (by decide) rfl (fun ls hl => ?_)
  refine lv_iconst (v := 0) hx hb dX14_burning_2 li_0 ?_
  refine lv_istore_n (lv' := [(2, .int (0 : Int32)), (1, .int (0 : Int32)), (0, .ref o)]) hx hb dX14_burning_3 rfl hl (by decide) rfl (fun ls hl => ?_)
  obtain ⟨rl1, hw1, hfo1⟩ := bind_s hf
  have hx1_0 : ∀ (x1_0 : Int32), f14_burning_e1_0 x1_0 = some out → ∀ (H : Heap) (locs : List Loc) (ls : Array Slot), RS G K I J X A B Q H → va_S (gA G) s.heap H locs → lv_has ls 3 [(0, .ref o), (1, .int x1_0)] → W p l e ({ frames := 1, cells := 0, slots := 0, locals := 20 } : Room) s m args below meth c H locs 0 0 Z (F0 m 27 ls []) := by
    intro x1_0 hf H locs ls hR hS hl
    unfold f14_burning_e1_0 at hf
    refine lv_iload_n hx hb dX14_burning_27 rfl (lv_at hl 1 rfl) ?_
    obtain rfl := some_i hf
    exact hend _ _ _ _ dX14_burning_28 hR hS
  refine whl_walk (P := fun (s1 : Int32 × Int32) => ∀ (H : Heap) (locs : List Loc) (ls : Array Slot), RS G K I J X A B Q H → va_S (gA G) s.heap H locs → lv_has ls 3 [(0, .ref o), (1, .int s1.1), (2, .int s1.2)] → W p l e ({ frames := 1, cells := 0, slots := 0, locals := 20 } : Room) s m args below meth c H locs 0 0 Z (F0 m 4 ls [])) (r := rl1) ?_ FU _ hw1 _ _ _ hR hS (lv_sub hl [2, 1, 0] rfl)
  clear hR hS hl hf
  intro s1 o1 hf hk1 H locs ls hR hS hl
  obtain ⟨w1_1, w1_2⟩ := s1
  have hf : f14_burning_s1 a_now a_burn w1_1 w1_2 = some o1 := hf
  have hR : RS G K I J X A B Q H := hR
  have hl : lv_has ls 3 [(0, .ref o), (1, .int w1_1), (2, .int w1_2)] := hl
  unfold f14_burning_s1 at hf
  refine lv_iload_n hx hb dX14_burning_4 rfl (lv_at hl 2 rfl) ?_
  refine lv_aload_n hx hb dX14_burning_5 rfl (lv_at hl 0 rfl) ?_
  obtain ⟨rr2, hrr2, hf⟩ := bind_s hf
  refine g0_cV (rm := (0, 0)) (As := []) (rest := [.int w1_2]) ⟨hx, hb, hml, hown, hts⟩ hG hR hS (m14_cells l G K I J X A B Q o shM a_now e_a_now rr2 hrr2) (cwV 0 hts gi_X14_426 rfl rfl rfl hd_X14_cells ⟨Nat.le_of_ble_eq_true rfl, Nat.le_of_ble_eq_true rfl⟩) shM.1 rfl rfl hl.1 (Nat.le_of_ble_eq_true rfl) dX14_burning_6 ⟨Nat.le_refl _, Nat.le_refl _⟩ rfl (fun H locs hR hS => ?_)
  refine lv_icmp_ge (tgt := 27) hx hb dX14_burning_9 (by decide) (fun c3 => ?_) (fun c3 => ?_)
  · have hf := ite_t c3 hf
    obtain rfl := some_i hf
    replace hk1 : _ = rl1 := hk1
    subst hk1
    exact hx1_0 w1_1 hfo1 _ _ _ hR hS (lv_sub hl [0, 1] rfl)
  · have hf := ite_f c3 hf
    refine lv_iload_n hx hb dX14_burning_12 rfl (lv_at hl 1 rfl) ?_
    refine lv_aload_n hx hb dX14_burning_13 rfl (lv_at hl 0 rfl) ?_
    refine g_getr (b := (o + 33)) hx hb hts hown hG hR gFx_X14_108_11 shM.1 ((shM.2 32 _ rfl).2) dX14_burning_14 ?_
    refine lv_iload_n hx hb dX14_burning_17 rfl (lv_at hl 2 rfl) ?_
    obtain ⟨c4, hf⟩ := gd_some hf
    obtain ⟨v5, ev5, hf⟩ := lt_some hf
    refine n_iald (x := a_burn) hx hb hG hR k_a_burn c4 e_a_burn ev5 dX14_burning_18 ?_
    obtain ⟨v6, ev6, hf⟩ := lt_some hf
    refine n_iadd hx hb ev6 dX14_burning_19 ?_
    refine lv_istore_n (lv' := [(1, .int v6), (0, .ref o), (2, .int w1_2)]) hx hb dX14_burning_20 rfl hl (by decide) rfl (fun ls hl => ?_)
    obtain ⟨v7, ev7, hf⟩ := lt_some hf
    refine lv_iinc (k := 2) (v := v7) (lv' := [(2, .int v7), (1, .int v6), (0, .ref o)]) hx hb dX14_burning_21 hl rfl (by rw [ev7]; rfl) (by decide) rfl (fun ls hl => ?_)
    refine lv_goto (tgt := 4) hx hb dX14_burning_24 (by decide) ?_
    obtain rfl := some_i hf
    exact hk1 _ _ _ hR hS (lv_sub hl [2, 1, 0] rfl)
noncomputable def f14_neighbour_j83  : Option (Int32) :=
  some (-1 : Int32)

noncomputable def f14_neighbour_j51 (a_now : Nat → Int32) (v4 : Int32) (v6 : Int32) (j51_s0 : Int32) : Option (Int32) :=
  lt (v6 + j51_s0) fun v8 =>
  if v4 < 0 then
    f14_neighbour_j83
  else
    (f14_columns a_now).bind fun rr10 =>
    if rr10 ≤ v4 then
      f14_neighbour_j83
    else
      if v8 < 0 then
        f14_neighbour_j83
      else
        gd (inb (10 : Int32) 800) <|
        lt (a_now (10 : Int32).toNatClampNeg) fun v14 =>
        if v8 < v14 then
          (f14_columns a_now).bind fun rr16 =>
          lt (rr16 * v8) fun v17 =>
          lt (v17 + v4) fun v18 =>
          some v18
        else
          f14_neighbour_j83

noncomputable def f14_neighbour_j25 (p1 : Int32) (p2 : Int32) (a_now : Nat → Int32) (v2 : Int32) (j25_s0 : Int32) : Option (Int32) :=
  lt (v2 + j25_s0) fun v4 =>
  (f14_columns a_now).bind fun rr5 =>
  gd (¬ rr5 = 0) <|
  lt (p1 / rr5) fun v6 =>
  if p2 = (2 : Int32) then
    f14_neighbour_j51 a_now v4 v6 (1 : Int32)
  else
    if p2 = 0 then
      f14_neighbour_j51 a_now v4 v6 (-1 : Int32)
    else
      f14_neighbour_j51 a_now v4 v6 (0 : Int32)

noncomputable def f14_neighbour (p1 : Int32) (p2 : Int32) (a_now : Nat → Int32) : Option (Int32) :=
  (f14_columns a_now).bind fun rr1 =>
  gd (¬ rr1 = 0) <|
  lt (p1 - p1 / rr1 * rr1) fun v2 =>
  if p2 = (1 : Int32) then
    f14_neighbour_j25 p1 p2 a_now v2 (1 : Int32)
  else
    if p2 = (3 : Int32) then
      f14_neighbour_j25 p1 p2 a_now v2 (-1 : Int32)
    else
      f14_neighbour_j25 p1 p2 a_now v2 (0 : Int32)
set_option maxHeartbeats 4000000 in
theorem m14_neighbour (l : Launch) (G : gG) (K : gK) (I : gI) (J : gJ) (X : gX) (A : gI) (B : gJ) (Q : gX) (o : Nat) (shM : Sh K X o 11 rows11) (p1 : Int32) (p2 : Int32) (a_now : Nat → Int32) (e_a_now : A (o + 2) = a_now) (out : Int32) (hf : f14_neighbour p1 p2 a_now = some out) : GMet l yX14_neighbour cX14_neighbour 5 (some .int) (1) (20) G [.ref o, .int p1, .int p2] K I J X A B Q (some (.int out)) K I J X A B Q 0 0 := by
  refine GMet.of (y := yX14_neighbour) rfl (Nat.le_of_ble_eq_true rfl) rfl ?_
  intro p e s m below meth c ls hx hb hr hml hlocks hts hown hname hG hR hl
  have hown : s.vm.findClass RX14 = some m.cls := hown
  have k_a_now : K (o + 2) = some (.inr (0, 800)) := (shM.2 1 _ rfl).1
  have hR : RS G K I J X A B Q s.heap := hR.to rfl rfl rfl rfl rfl rfl
  have hS : va_S (gA G) s.heap s.heap [] := va_S.rf
  have hend : ∀ (pc : Nat) (H : Heap) (locs : List Loc) (ls : Array Slot), decode cX14_neighbour pc = .ok (.ireturn, 1) → RS G K I J X A B Q H → va_S (gA G) s.heap H locs → W p l e ({ frames := 1, cells := 0, slots := 0, locals := 20 } : Room) s m ([.ref o, .int p1, .int p2] : List Value).toArray below meth c H locs 0 0 (MQ below (gQ G (some (.int out)) K I J X A B Q) ([.ref o, .int p1, .int p2] : List Value).toArray s 0 0 (gA G)) (F0 m pc ls [.int out]) := fun pc H locs ls hd hR hS => g_iret hx hb hr hlocks hG hR hS rfl hd
  generalize MQ below (gQ G (some (.int out)) K I J X A B Q) ([.ref o, .int p1, .int p2] : List Value).toArray s 0 0 (gA G) = Z at hend ⊢
  generalize ([.ref o, .int p1, .int p2] : List Value).toArray = args at hts hend ⊢
  unfold f14_neighbour at hf
  refine lv_iload_n hx hb dX14_neighbour_0 rfl (lv_at hl 1 rfl) ?_
  refine lv_aload_n hx hb dX14_neighbour_1 rfl (lv_at hl 0 rfl) ?_
  obtain ⟨rr1, hrr1, hf⟩ := bind_s hf
  refine g0_cV (rm := (0, 0)) (As := []) (rest := [.int p1]) ⟨hx, hb, hml, hown, hts⟩ hG hR hS (m14_columns l G K I J X A B Q o shM a_now e_a_now rr1 hrr1) (cwV 0 hts gi_X14_298 rfl rfl rfl hd_X14_columns ⟨Nat.le_of_ble_eq_true rfl, Nat.le_of_ble_eq_true rfl⟩) shM.1 rfl rfl hl.1 (Nat.le_of_ble_eq_true rfl) dX14_neighbour_2 ⟨Nat.le_refl _, Nat.le_refl _⟩ rfl (fun H locs hR hS => ?_)
  obtain ⟨c3, hf⟩ := gd_some hf
  obtain ⟨v2, ev2, hf⟩ := lt_some hf
  refine n_irem hx hb c3 ev2 dX14_neighbour_5 ?_
  refine lv_iload_n hx hb dX14_neighbour_6 rfl (lv_at hl 2 rfl) ?_
  refine lv_iconst (v := 1) hx hb dX14_neighbour_7 li_1 ?_
  have hj25 : ∀ (j25_s0 : Int32), f14_neighbour_j25 p1 p2 a_now v2 j25_s0 = some out → ∀ (H : Heap) (locs : List Loc) (ls : Array Slot), RS G K I J X A B Q H → va_S (gA G) s.heap H locs → lv_has ls 5 [(0, .ref o), (1, .int p1), (2, .int p2)] → W p l e ({ frames := 1, cells := 0, slots := 0, locals := 20 } : Room) s m args below meth c H locs 0 0 Z (F0 m 25 ls [.int j25_s0, .int v2]) := by
    intro j25_s0 hf H locs ls hR hS hl
    unfold f14_neighbour_j25 at hf
    obtain ⟨v4, ev4, hf⟩ := lt_some hf
    refine n_iadd hx hb ev4 dX14_neighbour_25 ?_
    refine lv_istore_n (lv' := [(3, .int v4), (0, .ref o), (1, .int p1), (2, .int p2)]) hx hb dX14_neighbour_26 rfl hl (by decide) rfl (fun ls hl => ?_)
    refine lv_iload_n hx hb dX14_neighbour_27 rfl (lv_at hl 2 rfl) ?_
    refine lv_aload_n hx hb dX14_neighbour_28 rfl (lv_at hl 1 rfl) ?_
    obtain ⟨rr5, hrr5, hf⟩ := bind_s hf
    refine g0_cV (rm := (0, 0)) (As := []) (rest := [.int p1]) ⟨hx, hb, hml, hown, hts⟩ hG hR hS (m14_columns l G K I J X A B Q o shM a_now e_a_now rr5 hrr5) (cwV 0 hts gi_X14_298 rfl rfl rfl hd_X14_columns ⟨Nat.le_of_ble_eq_true rfl, Nat.le_of_ble_eq_true rfl⟩) shM.1 rfl rfl hl.1 (Nat.le_of_ble_eq_true rfl) dX14_neighbour_29 ⟨Nat.le_refl _, Nat.le_refl _⟩ rfl (fun H locs hR hS => ?_)
    obtain ⟨c7, hf⟩ := gd_some hf
    obtain ⟨v6, ev6, hf⟩ := lt_some hf
    refine n_idiv hx hb c7 ev6 dX14_neighbour_32 ?_
    refine lv_iload_n hx hb dX14_neighbour_33 rfl (lv_at hl 3 rfl) ?_
    refine lv_iconst (v := 2) hx hb dX14_neighbour_34 li_2 ?_
    have hj51 : ∀ (j51_s0 : Int32), f14_neighbour_j51 a_now v4 v6 j51_s0 = some out → ∀ (H : Heap) (locs : List Loc) (ls : Array Slot), RS G K I J X A B Q H → va_S (gA G) s.heap H locs → lv_has ls 5 [(0, .ref o), (3, .int v4)] → W p l e ({ frames := 1, cells := 0, slots := 0, locals := 20 } : Room) s m args below meth c H locs 0 0 Z (F0 m 51 ls [.int j51_s0, .int v6]) := by
      intro j51_s0 hf H locs ls hR hS hl
      unfold f14_neighbour_j51 at hf
      obtain ⟨v8, ev8, hf⟩ := lt_some hf
      refine n_iadd hx hb ev8 dX14_neighbour_51 ?_
      refine lv_istore (lv' := [(4, .int v8), (0, .ref o), (3, .int v4)]) hx hb dX14_neighbour_52 hl (by decide) rfl (fun ls hl => ?_)
      refine lv_iload_n hx hb dX14_neighbour_54 rfl (lv_at hl 2 rfl) ?_
      have hj83 : ∀ (_ : Unit), f14_neighbour_j83 = some out → ∀ (H : Heap) (locs : List Loc) (ls : Array Slot), RS G K I J X A B Q H → va_S (gA G) s.heap H locs → lv_has ls 5 [(0, .ref o)] → W p l e ({ frames := 1, cells := 0, slots := 0, locals := 20 } : Room) s m args below meth c H locs 0 0 Z (F0 m 83 ls []) := by
        intro _ hf H locs ls hR hS hl
        unfold f14_neighbour_j83 at hf
        refine lv_iconst (v := -1) hx hb dX14_neighbour_83 li_m1 ?_
        refine lv_goto (tgt := 96) hx hb dX14_neighbour_84 (by decide) ?_
        obtain rfl := some_i hf
        exact hend _ _ _ _ dX14_neighbour_96 hR hS
      refine lv_if_lt (tgt := 83) hx hb dX14_neighbour_55 (by decide) (fun c9 => ?_) (fun c9 => ?_)
      · have hf := ite_t c9 hf
        exact hj83 () hf _ _ _ hR hS (lv_sub hl [1] rfl)
      · have hf := ite_f c9 hf
        refine lv_iload_n hx hb dX14_neighbour_58 rfl (lv_at hl 2 rfl) ?_
        refine lv_aload_n hx hb dX14_neighbour_59 rfl (lv_at hl 1 rfl) ?_
        obtain ⟨rr10, hrr10, hf⟩ := bind_s hf
        refine g0_cV (rm := (0, 0)) (As := []) (rest := [.int v4]) ⟨hx, hb, hml, hown, hts⟩ hG hR hS (m14_columns l G K I J X A B Q o shM a_now e_a_now rr10 hrr10) (cwV 0 hts gi_X14_298 rfl rfl rfl hd_X14_columns ⟨Nat.le_of_ble_eq_true rfl, Nat.le_of_ble_eq_true rfl⟩) shM.1 rfl rfl hl.1 (Nat.le_of_ble_eq_true rfl) dX14_neighbour_60 ⟨Nat.le_refl _, Nat.le_refl _⟩ rfl (fun H locs hR hS => ?_)
        refine lv_icmp_ge (tgt := 83) hx hb dX14_neighbour_63 (by decide) (fun c11 => ?_) (fun c11 => ?_)
        · have hf := ite_t c11 hf
          exact hj83 () hf _ _ _ hR hS (lv_sub hl [1] rfl)
        · have hf := ite_f c11 hf
          refine lv_iload hx hb dX14_neighbour_66 (lv_at hl 0 rfl) ?_
          refine lv_if_lt (tgt := 83) hx hb dX14_neighbour_68 (by decide) (fun c12 => ?_) (fun c12 => ?_)
          · have hf := ite_t c12 hf
            exact hj83 () hf _ _ _ hR hS (lv_sub hl [1] rfl)
          · have hf := ite_f c12 hf
            refine lv_iload hx hb dX14_neighbour_71 (lv_at hl 0 rfl) ?_
            refine lv_aload_n hx hb dX14_neighbour_73 rfl (lv_at hl 1 rfl) ?_
            refine g_getr (b := (o + 2)) hx hb hts hown hG hR gFx_X14_13_11 shM.1 ((shM.2 1 _ rfl).2) dX14_neighbour_74 ?_
            refine lv_bipush (v := 10) hx hb dX14_neighbour_77 lb_10 ?_
            obtain ⟨c13, hf⟩ := gd_some hf
            obtain ⟨v14, ev14, hf⟩ := lt_some hf
            refine n_iald (x := a_now) hx hb hG hR k_a_now c13 e_a_now ev14 dX14_neighbour_79 ?_
            refine lv_icmp_lt (tgt := 87) hx hb dX14_neighbour_80 (by decide) (fun c15 => ?_) (fun c15 => ?_)
            · have hf := ite_t c15 hf
              refine lv_aload_n hx hb dX14_neighbour_87 rfl (lv_at hl 1 rfl) ?_
              obtain ⟨rr16, hrr16, hf⟩ := bind_s hf
              refine g0_cV (rm := (0, 0)) (As := []) (rest := []) ⟨hx, hb, hml, hown, hts⟩ hG hR hS (m14_columns l G K I J X A B Q o shM a_now e_a_now rr16 hrr16) (cwV 0 hts gi_X14_298 rfl rfl rfl hd_X14_columns ⟨Nat.le_of_ble_eq_true rfl, Nat.le_of_ble_eq_true rfl⟩) shM.1 rfl rfl hl.1 (Nat.le_of_ble_eq_true rfl) dX14_neighbour_88 ⟨Nat.le_refl _, Nat.le_refl _⟩ rfl (fun H locs hR hS => ?_)
              refine lv_iload hx hb dX14_neighbour_91 (lv_at hl 0 rfl) ?_
              obtain ⟨v17, ev17, hf⟩ := lt_some hf
              refine n_imul hx hb ev17 dX14_neighbour_93 ?_
              refine lv_iload_n hx hb dX14_neighbour_94 rfl (lv_at hl 2 rfl) ?_
              obtain ⟨v18, ev18, hf⟩ := lt_some hf
              refine n_iadd hx hb ev18 dX14_neighbour_95 ?_
              obtain rfl := some_i hf
              exact hend _ _ _ _ dX14_neighbour_96 hR hS
            · have hf := ite_f c15 hf
              exact hj83 () hf _ _ _ hR hS (lv_sub hl [1] rfl)
    refine lv_icmp_ne (tgt := 42) hx hb dX14_neighbour_35 (by decide) (fun c19 => ?_) (fun c19 => ?_)
    · have hf := ite_f c19 hf
      refine lv_iload_n hx hb dX14_neighbour_42 rfl (lv_at hl 3 rfl) ?_
      refine lv_if_ne (tgt := 50) hx hb dX14_neighbour_43 (by decide) (fun c20 => ?_) (fun c20 => ?_)
      · have hf := ite_f c20 hf
        refine lv_iconst (v := 0) hx hb dX14_neighbour_50 li_0 ?_
        exact hj51 (0 : Int32) hf _ _ _ hR hS (lv_sub hl [1, 0] rfl)
      · have hf := ite_t c20 hf
        refine lv_iconst (v := -1) hx hb dX14_neighbour_46 li_m1 ?_
        refine lv_goto (tgt := 51) hx hb dX14_neighbour_47 (by decide) ?_
        exact hj51 (-1 : Int32) hf _ _ _ hR hS (lv_sub hl [1, 0] rfl)
    · have hf := ite_t c19 hf
      refine lv_iconst (v := 1) hx hb dX14_neighbour_38 li_1 ?_
      refine lv_goto (tgt := 51) hx hb dX14_neighbour_39 (by decide) ?_
      exact hj51 (1 : Int32) hf _ _ _ hR hS (lv_sub hl [1, 0] rfl)
  refine lv_icmp_ne (tgt := 15) hx hb dX14_neighbour_8 (by decide) (fun c21 => ?_) (fun c21 => ?_)
  · have hf := ite_f c21 hf
    refine lv_iload_n hx hb dX14_neighbour_15 rfl (lv_at hl 2 rfl) ?_
    refine lv_iconst (v := 3) hx hb dX14_neighbour_16 li_3 ?_
    refine lv_icmp_ne (tgt := 24) hx hb dX14_neighbour_17 (by decide) (fun c22 => ?_) (fun c22 => ?_)
    · have hf := ite_f c22 hf
      refine lv_iconst (v := 0) hx hb dX14_neighbour_24 li_0 ?_
      exact hj25 (0 : Int32) hf _ _ _ hR hS (lv_sub hl [0, 1, 2] rfl)
    · have hf := ite_t c22 hf
      refine lv_iconst (v := -1) hx hb dX14_neighbour_20 li_m1 ?_
      refine lv_goto (tgt := 25) hx hb dX14_neighbour_21 (by decide) ?_
      exact hj25 (-1 : Int32) hf _ _ _ hR hS (lv_sub hl [0, 1, 2] rfl)
  · have hf := ite_t c21 hf
    refine lv_iconst (v := 1) hx hb dX14_neighbour_11 li_1 ?_
    refine lv_goto (tgt := 25) hx hb dX14_neighbour_12 (by decide) ?_
    exact hj25 (1 : Int32) hf _ _ _ hR hS (lv_sub hl [0, 1, 2] rfl)
noncomputable def f14_fireAt (p1 : Int32) (p2 : Int32) (p3 : Int32) (i_thrown : Int32) (i_fireColumns : Int32) (i_fireRows : Int32) (i_wasFire : Int32) (a_fireCell : Nat → Int32) : Option (Int32 × Int32) :=
  if i_wasFire = 0 then
    some ((-1 : Int32), (0 : Int32))
  else
    if p1 < 0 then
      some ((-1 : Int32), (0 : Int32))
    else
      if i_fireColumns ≤ p1 then
        some ((-1 : Int32), (0 : Int32))
      else
        if p2 < 0 then
          some ((-1 : Int32), (0 : Int32))
        else
          if i_fireRows ≤ p2 then
            some ((-1 : Int32), (0 : Int32))
          else
            (f14_isIn p3 (0 : Int32) (2 : Int32)).bind fun rr6 =>
            if rr6 = 0 then
              some ((-1 : Int32), (0 : Int32))
            else
              lt (i_fireColumns * p2) fun v8 =>
              lt (v8 + p1) fun v9 =>
              lt ((3 : Int32) * v9) fun v10 =>
              lt (v10 + p3) fun v11 =>
              gd (inb v11 192) <|
              lt (a_fireCell v11.toNatClampNeg) fun v13 =>
              some (v13, (0 : Int32))
set_option maxHeartbeats 4000000 in
theorem m14_fireAt (l : Launch) (G : gG) (K : gK) (I : gI) (J : gJ) (X : gX) (A : gI) (B : gJ) (Q : gX) (o : Nat) (shM : Sh K X o 11 rows11) (p1 : Int32) (p2 : Int32) (p3 : Int32) (i_thrown : Int32) (i_fireColumns : Int32) (i_fireRows : Int32) (i_wasFire : Int32) (a_fireCell : Nat → Int32) (e_i_thrown : I 1100 o = i_thrown) (e_i_fireColumns : I 1173 o = i_fireColumns) (e_i_fireRows : I 1174 o = i_fireRows) (e_i_wasFire : I 1176 o = i_wasFire) (e_a_fireCell : A (o + 38) = a_fireCell) (out : Int32 × Int32) (hf : f14_fireAt p1 p2 p3 i_thrown i_fireColumns i_fireRows i_wasFire a_fireCell = some out) : GMet l yX14_fireAt cX14_fireAt 4 (some .int) (1) (22) G [.ref o, .int p1, .int p2, .int p3] K I J X A B Q (some (.int out.1)) K (ov I [(1100, o, out.2)]) J X A B Q 0 0 := by
  refine GMet.of (y := yX14_fireAt) rfl (Nat.le_of_ble_eq_true rfl) rfl ?_
  intro p e s m below meth c ls hx hb hr hml hlocks hts hown hname hG hR hl
  have hown : s.vm.findClass RX14 = some m.cls := hown
  have k_a_fireCell : K (o + 38) = some (.inr (0, 192)) := (shM.2 37 _ rfl).1
  have hR : RS G K (ov I [(1100, o, i_thrown)]) J X A B Q s.heap := hR.to (Eq.symm (ov_sc e_i_thrown rfl)) rfl rfl rfl rfl rfl
  have hS : va_S (gA G) s.heap s.heap [] := va_S.rf
  have hend : ∀ (pc : Nat) (H : Heap) (locs : List Loc) (ls : Array Slot), decode cX14_fireAt pc = .ok (.ireturn, 1) → RS G K (ov I [(1100, o, out.2)]) J X A B Q H → va_S (gA G) s.heap H locs → W p l e ({ frames := 1, cells := 0, slots := 0, locals := 22 } : Room) s m ([.ref o, .int p1, .int p2, .int p3] : List Value).toArray below meth c H locs 0 0 (MQ below (gQ G (some (.int out.1)) K (ov I [(1100, o, out.2)]) J X A B Q) ([.ref o, .int p1, .int p2, .int p3] : List Value).toArray s 0 0 (gA G)) (F0 m pc ls [.int out.1]) := fun pc H locs ls hd hR hS => g_iret hx hb hr hlocks hG hR hS rfl hd
  generalize MQ below (gQ G (some (.int out.1)) K (ov I [(1100, o, out.2)]) J X A B Q) ([.ref o, .int p1, .int p2, .int p3] : List Value).toArray s 0 0 (gA G) = Z at hend ⊢
  generalize ([.ref o, .int p1, .int p2, .int p3] : List Value).toArray = args at hts hend ⊢
  unfold f14_fireAt at hf
  refine lv_aload_n hx hb dX14_fireAt_0 rfl (lv_at hl 0 rfl) ?_
  refine lv_iconst (v := 0) hx hb dX14_fireAt_1 li_0 ?_
  refine n_puti (li' := [(1100, o, (0 : Int32))]) hx hb hts hown hG hR hS gPi_X14_148_11 shM.1 0 rfl rfl rfl dX14_fireAt_2 (fun H locs hR hS => ?_)
  refine lv_aload_n hx hb dX14_fireAt_5 rfl (lv_at hl 0 rfl) ?_
  refine n_geti (v := i_wasFire) hx hb hts hown hG hR gFi_X14_458_11 shM.1 ((congrFun (ov_no rfl) _).trans e_i_wasFire) dX14_fireAt_6 ?_
  refine lv_if_eq (tgt := 45) hx hb dX14_fireAt_9 (by decide) (fun c1 => ?_) (fun c1 => ?_)
  · have hf := ite_t c1 hf
    refine lv_iconst (v := -1) hx hb dX14_fireAt_45 li_m1 ?_
    obtain rfl := some_i hf
    exact hend _ _ _ _ dX14_fireAt_46 hR hS
  · have hf := ite_f c1 hf
    refine lv_iload_n hx hb dX14_fireAt_12 rfl (lv_at hl 1 rfl) ?_
    refine lv_if_lt (tgt := 45) hx hb dX14_fireAt_13 (by decide) (fun c2 => ?_) (fun c2 => ?_)
    · have hf := ite_t c2 hf
      refine lv_iconst (v := -1) hx hb dX14_fireAt_45 li_m1 ?_
      obtain rfl := some_i hf
      exact hend _ _ _ _ dX14_fireAt_46 hR hS
    · have hf := ite_f c2 hf
      refine lv_iload_n hx hb dX14_fireAt_16 rfl (lv_at hl 1 rfl) ?_
      refine lv_aload_n hx hb dX14_fireAt_17 rfl (lv_at hl 0 rfl) ?_
      refine n_geti (v := i_fireColumns) hx hb hts hown hG hR gFi_X14_461_11 shM.1 ((congrFun (ov_no rfl) _).trans e_i_fireColumns) dX14_fireAt_18 ?_
      refine lv_icmp_ge (tgt := 45) hx hb dX14_fireAt_21 (by decide) (fun c3 => ?_) (fun c3 => ?_)
      · have hf := ite_t c3 hf
        refine lv_iconst (v := -1) hx hb dX14_fireAt_45 li_m1 ?_
        obtain rfl := some_i hf
        exact hend _ _ _ _ dX14_fireAt_46 hR hS
      · have hf := ite_f c3 hf
        refine lv_iload_n hx hb dX14_fireAt_24 rfl (lv_at hl 2 rfl) ?_
        refine lv_if_lt (tgt := 45) hx hb dX14_fireAt_25 (by decide) (fun c4 => ?_) (fun c4 => ?_)
        · have hf := ite_t c4 hf
          refine lv_iconst (v := -1) hx hb dX14_fireAt_45 li_m1 ?_
          obtain rfl := some_i hf
          exact hend _ _ _ _ dX14_fireAt_46 hR hS
        · have hf := ite_f c4 hf
          refine lv_iload_n hx hb dX14_fireAt_28 rfl (lv_at hl 2 rfl) ?_
          refine lv_aload_n hx hb dX14_fireAt_29 rfl (lv_at hl 0 rfl) ?_
          refine n_geti (v := i_fireRows) hx hb hts hown hG hR gFi_X14_464_11 shM.1 ((congrFun (ov_no rfl) _).trans e_i_fireRows) dX14_fireAt_30 ?_
          refine lv_icmp_ge (tgt := 45) hx hb dX14_fireAt_33 (by decide) (fun c5 => ?_) (fun c5 => ?_)
          · have hf := ite_t c5 hf
            refine lv_iconst (v := -1) hx hb dX14_fireAt_45 li_m1 ?_
            obtain rfl := some_i hf
            exact hend _ _ _ _ dX14_fireAt_46 hR hS
          · have hf := ite_f c5 hf
            refine lv_iload_n hx hb dX14_fireAt_36 rfl (lv_at hl 3 rfl) ?_
            refine lv_iconst (v := 0) hx hb dX14_fireAt_37 li_0 ?_
            refine lv_iconst (v := 2) hx hb dX14_fireAt_38 li_2 ?_
            obtain ⟨rr6, hrr6, hf⟩ := bind_s hf
            refine g0_cS (rm := (0, 0)) (As := [.int p3, .int (0 : Int32), .int (2 : Int32)]) (rest := []) ⟨hx, hb, hml, hown, hts⟩ hG hR hS (m14_isIn l G K (ov I [(1100, o, (0 : Int32))]) J X A B Q p3 (0 : Int32) (2 : Int32) rr6 hrr6) (cwS 3 hts gi_X14_219 rfl rfl rfl hd_X14_isIn ⟨Nat.le_of_ble_eq_true rfl, Nat.le_of_ble_eq_true rfl⟩) rfl hl.1 (Nat.le_of_ble_eq_true rfl) dX14_fireAt_39 ⟨Nat.le_refl _, Nat.le_refl _⟩ rfl (fun H locs hR hS => ?_)
            refine lv_if_ne (tgt := 47) hx hb dX14_fireAt_42 (by decide) (fun c7 => ?_) (fun c7 => ?_)
            · have hf := ite_f c7 hf
              refine lv_aload_n hx hb dX14_fireAt_47 rfl (lv_at hl 0 rfl) ?_
              refine g_getr (b := (o + 38)) hx hb hts hown hG hR gFx_X14_123_11 shM.1 ((shM.2 37 _ rfl).2) dX14_fireAt_48 ?_
              refine lv_iconst (v := 3) hx hb dX14_fireAt_51 li_3 ?_
              refine lv_aload_n hx hb dX14_fireAt_52 rfl (lv_at hl 0 rfl) ?_
              refine n_geti (v := i_fireColumns) hx hb hts hown hG hR gFi_X14_461_11 shM.1 ((congrFun (ov_no rfl) _).trans e_i_fireColumns) dX14_fireAt_53 ?_
              refine lv_iload_n hx hb dX14_fireAt_56 rfl (lv_at hl 2 rfl) ?_
              obtain ⟨v8, ev8, hf⟩ := lt_some hf
              refine n_imul hx hb ev8 dX14_fireAt_57 ?_
              refine lv_iload_n hx hb dX14_fireAt_58 rfl (lv_at hl 1 rfl) ?_
              obtain ⟨v9, ev9, hf⟩ := lt_some hf
              refine n_iadd hx hb ev9 dX14_fireAt_59 ?_
              obtain ⟨v10, ev10, hf⟩ := lt_some hf
              refine n_imul hx hb ev10 dX14_fireAt_60 ?_
              refine lv_iload_n hx hb dX14_fireAt_61 rfl (lv_at hl 3 rfl) ?_
              obtain ⟨v11, ev11, hf⟩ := lt_some hf
              refine n_iadd hx hb ev11 dX14_fireAt_62 ?_
              obtain ⟨c12, hf⟩ := gd_some hf
              obtain ⟨v13, ev13, hf⟩ := lt_some hf
              refine n_iald (x := a_fireCell) hx hb hG hR k_a_fireCell c12 e_a_fireCell ev13 dX14_fireAt_63 ?_
              obtain rfl := some_i hf
              exact hend _ _ _ _ dX14_fireAt_64 hR hS
            · have hf := ite_t c7 hf
              refine lv_iconst (v := -1) hx hb dX14_fireAt_45 li_m1 ?_
              obtain rfl := some_i hf
              exact hend _ _ _ _ dX14_fireAt_46 hR hS
noncomputable def f14_out (i_thrown : Int32) (i_fireOut : Int32) : Option (Int32 × Int32) :=
  some (i_fireOut, (0 : Int32))
set_option maxHeartbeats 4000000 in
theorem m14_out (l : Launch) (G : gG) (K : gK) (I : gI) (J : gJ) (X : gX) (A : gI) (B : gJ) (Q : gX) (o : Nat) (shM : Sh K X o 11 rows11)  (i_thrown : Int32) (i_fireOut : Int32) (e_i_thrown : I 1100 o = i_thrown) (e_i_fireOut : I 1175 o = i_fireOut) (out : Int32 × Int32) (hf : f14_out i_thrown i_fireOut = some out) : GMet l yX14_out cX14_out 1 (some .int) (0) (0) G [.ref o] K I J X A B Q (some (.int out.1)) K (ov I [(1100, o, out.2)]) J X A B Q 0 0 := by
  refine GMet.of (y := yX14_out) rfl (Nat.le_of_ble_eq_true rfl) rfl ?_
  intro p e s m below meth c ls hx hb hr hml hlocks hts hown hname hG hR hl
  have hown : s.vm.findClass RX14 = some m.cls := hown
  have hR : RS G K (ov I [(1100, o, i_thrown)]) J X A B Q s.heap := hR.to (Eq.symm (ov_sc e_i_thrown rfl)) rfl rfl rfl rfl rfl
  have hS : va_S (gA G) s.heap s.heap [] := va_S.rf
  have hend : ∀ (pc : Nat) (H : Heap) (locs : List Loc) (ls : Array Slot), decode cX14_out pc = .ok (.ireturn, 1) → RS G K (ov I [(1100, o, out.2)]) J X A B Q H → va_S (gA G) s.heap H locs → W p l e ({ frames := 0, cells := 0, slots := 0, locals := 0 } : Room) s m ([.ref o] : List Value).toArray below meth c H locs 0 0 (MQ below (gQ G (some (.int out.1)) K (ov I [(1100, o, out.2)]) J X A B Q) ([.ref o] : List Value).toArray s 0 0 (gA G)) (F0 m pc ls [.int out.1]) := fun pc H locs ls hd hR hS => g_iret hx hb hr hlocks hG hR hS rfl hd
  generalize MQ below (gQ G (some (.int out.1)) K (ov I [(1100, o, out.2)]) J X A B Q) ([.ref o] : List Value).toArray s 0 0 (gA G) = Z at hend ⊢
  generalize ([.ref o] : List Value).toArray = args at hts hend ⊢
  unfold f14_out at hf
  refine lv_aload_n hx hb dX14_out_0 rfl (lv_at hl 0 rfl) ?_
  refine lv_iconst (v := 0) hx hb dX14_out_1 li_0 ?_
  refine n_puti (li' := [(1100, o, (0 : Int32))]) hx hb hts hown hG hR hS gPi_X14_148_11 shM.1 0 rfl rfl rfl dX14_out_2 (fun H locs hR hS => ?_)
  refine lv_aload_n hx hb dX14_out_5 rfl (lv_at hl 0 rfl) ?_
  refine n_geti (v := i_fireOut) hx hb hts hown hG hR gFi_X14_126_11 shM.1 ((congrFun (ov_no rfl) _).trans e_i_fireOut) dX14_out_6 ?_
  obtain rfl := some_i hf
  exact hend _ _ _ _ dX14_out_9 hR hS
noncomputable def f14_keepFire_e1_0 (x1_0 : (Nat → Int32)) : Option ((Nat → Int32)) :=
  some x1_0

noncomputable def f14_keepFire_s1 (p1 : Int32) (a_now : Nat → Int32) (a_fuel : Nat → Int32) (a_burn : Nat → Int32) (a_wet : Nat → Int32) (w1_2 : Int32) (w1_a_stood : Nat → Int32) : Option ((Int32 × (Nat → Int32)) ⊕ ((Nat → Int32))) :=
  (f14_cells a_now).bind fun rr2 =>
  if rr2 ≤ w1_2 then
    some (.inr w1_a_stood)
  else
    lt ((192 : Int32) * p1) fun v4 =>
    lt ((3 : Int32) * w1_2) fun v5 =>
    lt (v4 + v5) fun v6 =>
    gd (inb w1_2 64) <|
    lt (a_fuel w1_2.toNatClampNeg) fun v8 =>
    gd (inb v6 576) <|
    lt (upd w1_a_stood v6.toNatClampNeg v8) fun u10 =>
    lt ((192 : Int32) * p1) fun v11 =>
    lt ((3 : Int32) * w1_2) fun v12 =>
    lt (v11 + v12) fun v13 =>
    lt (v13 + (1 : Int32)) fun v14 =>
    gd (inb w1_2 64) <|
    lt (a_burn w1_2.toNatClampNeg) fun v16 =>
    gd (inb v14 576) <|
    lt (upd u10 v14.toNatClampNeg v16) fun u18 =>
    lt ((192 : Int32) * p1) fun v19 =>
    lt ((3 : Int32) * w1_2) fun v20 =>
    lt (v19 + v20) fun v21 =>
    lt (v21 + (2 : Int32)) fun v22 =>
    gd (inb w1_2 64) <|
    lt (a_wet w1_2.toNatClampNeg) fun v24 =>
    gd (inb v22 576) <|
    lt (upd u18 v22.toNatClampNeg v24) fun u26 =>
    lt (w1_2 + (1 : Int32)) fun v27 =>
    some (.inl (v27, u26))

noncomputable def f14_keepFire (p1 : Int32) (a_now : Nat → Int32) (a_fuel : Nat → Int32) (a_burn : Nat → Int32) (a_wet : Nat → Int32) (a_stood : Nat → Int32) : Option ((Nat → Int32)) :=
  (whl (fun (s1 : Int32 × (Nat → Int32)) => f14_keepFire_s1 p1 a_now a_fuel a_burn a_wet s1.1 s1.2) FU ((0 : Int32), a_stood)).bind fun rl1 =>
  f14_keepFire_e1_0 rl1
set_option maxHeartbeats 4000000 in
theorem m14_keepFire (l : Launch) (G : gG) (K : gK) (I : gI) (J : gJ) (X : gX) (A : gI) (B : gJ) (Q : gX) (o : Nat) (shM : Sh K X o 11 rows11) (p1 : Int32) (a_now : Nat → Int32) (a_fuel : Nat → Int32) (a_burn : Nat → Int32) (a_wet : Nat → Int32) (a_stood : Nat → Int32) (e_a_now : A (o + 2) = a_now) (e_a_fuel : A (o + 32) = a_fuel) (e_a_burn : A (o + 33) = a_burn) (e_a_wet : A (o + 34) = a_wet) (e_a_stood : A (o + 39) = a_stood) (out : (Nat → Int32)) (hf : f14_keepFire p1 a_now a_fuel a_burn a_wet a_stood = some out) : GMet l yX14_keepFire cX14_keepFire 3 none (1) (20) G [.ref o, .int p1] K I J X A B Q none K I J X (ova A [((o + 2), a_now), ((o + 32), a_fuel), ((o + 33), a_burn), ((o + 34), a_wet), ((o + 39), out)]) B Q 0 0 := by
  refine GMet.of (y := yX14_keepFire) rfl (Nat.le_of_ble_eq_true rfl) rfl ?_
  intro p e s m below meth c ls hx hb hr hml hlocks hts hown hname hG hR hl
  have hown : s.vm.findClass RX14 = some m.cls := hown
  have k_a_now : K (o + 2) = some (.inr (0, 800)) := (shM.2 1 _ rfl).1
  have k_a_fuel : K (o + 32) = some (.inr (0, 64)) := (shM.2 31 _ rfl).1
  have k_a_burn : K (o + 33) = some (.inr (0, 64)) := (shM.2 32 _ rfl).1
  have k_a_wet : K (o + 34) = some (.inr (0, 64)) := (shM.2 33 _ rfl).1
  have k_a_stood : K (o + 39) = some (.inr (0, 576)) := (shM.2 38 _ rfl).1
  have hN_A : nda [(o + 2), (o + 32), (o + 33), (o + 34), (o + 39)] := nd_off o [2, 32, 33, 34, 39] rfl
  have hR : RS G K I J X (ova A [((o + 2), a_now), ((o + 32), a_fuel), ((o + 33), a_burn), ((o + 34), a_wet), ((o + 39), a_stood)]) B Q s.heap := hR.to rfl rfl rfl (Eq.symm (ova_sc e_a_now (ova_sc e_a_fuel (ova_sc e_a_burn (ova_sc e_a_wet (ova_sc e_a_stood rfl)))))) rfl rfl
  have hS : va_S (gA G) s.heap s.heap [] := va_S.rf
  have hend : ∀ (pc : Nat) (H : Heap) (locs : List Loc) (ls : Array Slot), decode cX14_keepFire pc = .ok (.return_, 1) → RS G K I J X (ova A [((o + 2), a_now), ((o + 32), a_fuel), ((o + 33), a_burn), ((o + 34), a_wet), ((o + 39), out)]) B Q H → va_S (gA G) s.heap H locs → W p l e ({ frames := 1, cells := 0, slots := 0, locals := 20 } : Room) s m ([.ref o, .int p1] : List Value).toArray below meth c H locs 0 0 (MQ below (gQ G none K I J X (ova A [((o + 2), a_now), ((o + 32), a_fuel), ((o + 33), a_burn), ((o + 34), a_wet), ((o + 39), out)]) B Q) ([.ref o, .int p1] : List Value).toArray s 0 0 (gA G)) (F0 m pc ls []) := fun pc H locs ls hd hR hS => g_vret hx hb hr hlocks hG hR hS rfl hd
  generalize MQ below (gQ G none K I J X (ova A [((o + 2), a_now), ((o + 32), a_fuel), ((o + 33), a_burn), ((o + 34), a_wet), ((o + 39), out)]) B Q) ([.ref o, .int p1] : List Value).toArray s 0 0 (gA G) = Z at hend ⊢
  generalize ([.ref o, .int p1] : List Value).toArray = args at hts hend ⊢
  unfold f14_keepFire at hf
  refine lv_iconst (v := 0) hx hb dX14_keepFire_0 li_0 ?_
  refine lv_istore_n (lv' := [(2, .int (0 : Int32)), (0, .ref o), (1, .int p1)]) hx hb dX14_keepFire_1 rfl hl (by decide) rfl (fun ls hl => ?_)
  obtain ⟨rl1, hw1, hfo1⟩ := bind_s hf
  have hx1_0 : ∀ (x1_0 : (Nat → Int32)), f14_keepFire_e1_0 x1_0 = some out → ∀ (pc : Nat) (H : Heap) (locs : List Loc) (ls : Array Slot), decode cX14_keepFire pc = .ok (.return_, 1) → RS G K I J X (ova A [((o + 2), a_now), ((o + 32), a_fuel), ((o + 33), a_burn), ((o + 34), a_wet), ((o + 39), x1_0)]) B Q H → va_S (gA G) s.heap H locs → W p l e ({ frames := 1, cells := 0, slots := 0, locals := 20 } : Room) s m args below meth c H locs 0 0 Z (F0 m pc ls []) := by
    intro x1_0 hf pc H locs ls hd hR hS
    unfold f14_keepFire_e1_0 at hf
    obtain rfl := some_i hf
    exact hend _ _ _ _ hd hR hS
  refine whl_walk (P := fun (s1 : Int32 × (Nat → Int32)) => ∀ (H : Heap) (locs : List Loc) (ls : Array Slot), RS G K I J X (ova A [((o + 2), a_now), ((o + 32), a_fuel), ((o + 33), a_burn), ((o + 34), a_wet), ((o + 39), s1.2)]) B Q H → va_S (gA G) s.heap H locs → lv_has ls 3 [(0, .ref o), (1, .int p1), (2, .int s1.1)] → W p l e ({ frames := 1, cells := 0, slots := 0, locals := 20 } : Room) s m args below meth c H locs 0 0 Z (F0 m 2 ls [])) (r := rl1) ?_ FU _ hw1 _ _ _ hR hS (lv_sub hl [1, 2, 0] rfl)
  clear hR hS hl hf
  intro s1 o1 hf hk1 H locs ls hR hS hl
  obtain ⟨w1_2, w1_a_stood⟩ := s1
  have hf : f14_keepFire_s1 p1 a_now a_fuel a_burn a_wet w1_2 w1_a_stood = some o1 := hf
  have hR : RS G K I J X (ova A [((o + 2), a_now), ((o + 32), a_fuel), ((o + 33), a_burn), ((o + 34), a_wet), ((o + 39), w1_a_stood)]) B Q H := hR
  have hl : lv_has ls 3 [(0, .ref o), (1, .int p1), (2, .int w1_2)] := hl
  unfold f14_keepFire_s1 at hf
  refine lv_iload_n hx hb dX14_keepFire_2 rfl (lv_at hl 2 rfl) ?_
  refine lv_aload_n hx hb dX14_keepFire_3 rfl (lv_at hl 0 rfl) ?_
  obtain ⟨rr2, hrr2, hf⟩ := bind_s hf
  refine g0_cV (rm := (0, 0)) (As := []) (rest := [.int w1_2]) ⟨hx, hb, hml, hown, hts⟩ hG hR hS (m14_cells l G K I J X (ova A [((o + 2), a_now), ((o + 32), a_fuel), ((o + 33), a_burn), ((o + 34), a_wet), ((o + 39), w1_a_stood)]) B Q o shM a_now (ova_get 0 hN_A rfl) rr2 hrr2) (cwV 0 hts gi_X14_426 rfl rfl rfl hd_X14_cells ⟨Nat.le_of_ble_eq_true rfl, Nat.le_of_ble_eq_true rfl⟩) shM.1 rfl rfl hl.1 (Nat.le_of_ble_eq_true rfl) dX14_keepFire_4 ⟨Nat.le_refl _, Nat.le_refl _⟩ rfl (fun H locs hR hS => ?_)
  refine lv_icmp_ge (tgt := 80) hx hb dX14_keepFire_7 (by decide) (fun c3 => ?_) (fun c3 => ?_)
  · have hf := ite_t c3 hf
    obtain rfl := some_i hf
    replace hk1 : _ = rl1 := hk1
    subst hk1
    exact hx1_0 w1_a_stood hfo1 _ _ _ _ dX14_keepFire_80 hR hS
  · have hf := ite_f c3 hf
    refine lv_aload_n hx hb dX14_keepFire_10 rfl (lv_at hl 0 rfl) ?_
    refine g_getr (b := (o + 39)) hx hb hts hown hG hR gFx_X14_130_11 shM.1 ((shM.2 38 _ rfl).2) dX14_keepFire_11 ?_
    refine lv_sipush (v := 192) hx hb dX14_keepFire_14 ls_192 ?_
    refine lv_iload_n hx hb dX14_keepFire_17 rfl (lv_at hl 1 rfl) ?_
    obtain ⟨v4, ev4, hf⟩ := lt_some hf
    refine n_imul hx hb ev4 dX14_keepFire_18 ?_
    refine lv_iconst (v := 3) hx hb dX14_keepFire_19 li_3 ?_
    refine lv_iload_n hx hb dX14_keepFire_20 rfl (lv_at hl 2 rfl) ?_
    obtain ⟨v5, ev5, hf⟩ := lt_some hf
    refine n_imul hx hb ev5 dX14_keepFire_21 ?_
    obtain ⟨v6, ev6, hf⟩ := lt_some hf
    refine n_iadd hx hb ev6 dX14_keepFire_22 ?_
    refine lv_aload_n hx hb dX14_keepFire_23 rfl (lv_at hl 0 rfl) ?_
    refine g_getr (b := (o + 32)) hx hb hts hown hG hR gFx_X14_105_11 shM.1 ((shM.2 31 _ rfl).2) dX14_keepFire_24 ?_
    refine lv_iload_n hx hb dX14_keepFire_27 rfl (lv_at hl 2 rfl) ?_
    obtain ⟨c7, hf⟩ := gd_some hf
    obtain ⟨v8, ev8, hf⟩ := lt_some hf
    refine n_iald (x := a_fuel) hx hb hG hR k_a_fuel c7 (ova_get 1 hN_A rfl) ev8 dX14_keepFire_28 ?_
    obtain ⟨c9, hf⟩ := gd_some hf
    obtain ⟨u10, eu10, hf⟩ := lt_some hf
    refine n_iast (la' := [((o + 2), a_now), ((o + 32), a_fuel), ((o + 33), a_burn), ((o + 34), a_wet), ((o + 39), u10)]) hx hb hG hR hS k_a_stood c9 hN_A 4 rfl eu10 rfl dX14_keepFire_29 (fun H locs hR hS => ?_)
    refine lv_aload_n hx hb dX14_keepFire_30 rfl (lv_at hl 0 rfl) ?_
    refine g_getr (b := (o + 39)) hx hb hts hown hG hR gFx_X14_130_11 shM.1 ((shM.2 38 _ rfl).2) dX14_keepFire_31 ?_
    refine lv_sipush (v := 192) hx hb dX14_keepFire_34 ls_192 ?_
    refine lv_iload_n hx hb dX14_keepFire_37 rfl (lv_at hl 1 rfl) ?_
    obtain ⟨v11, ev11, hf⟩ := lt_some hf
    refine n_imul hx hb ev11 dX14_keepFire_38 ?_
    refine lv_iconst (v := 3) hx hb dX14_keepFire_39 li_3 ?_
    refine lv_iload_n hx hb dX14_keepFire_40 rfl (lv_at hl 2 rfl) ?_
    obtain ⟨v12, ev12, hf⟩ := lt_some hf
    refine n_imul hx hb ev12 dX14_keepFire_41 ?_
    obtain ⟨v13, ev13, hf⟩ := lt_some hf
    refine n_iadd hx hb ev13 dX14_keepFire_42 ?_
    refine lv_iconst (v := 1) hx hb dX14_keepFire_43 li_1 ?_
    obtain ⟨v14, ev14, hf⟩ := lt_some hf
    refine n_iadd hx hb ev14 dX14_keepFire_44 ?_
    refine lv_aload_n hx hb dX14_keepFire_45 rfl (lv_at hl 0 rfl) ?_
    refine g_getr (b := (o + 33)) hx hb hts hown hG hR gFx_X14_108_11 shM.1 ((shM.2 32 _ rfl).2) dX14_keepFire_46 ?_
    refine lv_iload_n hx hb dX14_keepFire_49 rfl (lv_at hl 2 rfl) ?_
    obtain ⟨c15, hf⟩ := gd_some hf
    obtain ⟨v16, ev16, hf⟩ := lt_some hf
    refine n_iald (x := a_burn) hx hb hG hR k_a_burn c15 (ova_get 2 hN_A rfl) ev16 dX14_keepFire_50 ?_
    obtain ⟨c17, hf⟩ := gd_some hf
    obtain ⟨u18, eu18, hf⟩ := lt_some hf
    refine n_iast (la' := [((o + 2), a_now), ((o + 32), a_fuel), ((o + 33), a_burn), ((o + 34), a_wet), ((o + 39), u18)]) hx hb hG hR hS k_a_stood c17 hN_A 4 rfl eu18 rfl dX14_keepFire_51 (fun H locs hR hS => ?_)
    refine lv_aload_n hx hb dX14_keepFire_52 rfl (lv_at hl 0 rfl) ?_
    refine g_getr (b := (o + 39)) hx hb hts hown hG hR gFx_X14_130_11 shM.1 ((shM.2 38 _ rfl).2) dX14_keepFire_53 ?_
    refine lv_sipush (v := 192) hx hb dX14_keepFire_56 ls_192 ?_
    refine lv_iload_n hx hb dX14_keepFire_59 rfl (lv_at hl 1 rfl) ?_
    obtain ⟨v19, ev19, hf⟩ := lt_some hf
    refine n_imul hx hb ev19 dX14_keepFire_60 ?_
    refine lv_iconst (v := 3) hx hb dX14_keepFire_61 li_3 ?_
    refine lv_iload_n hx hb dX14_keepFire_62 rfl (lv_at hl 2 rfl) ?_
    obtain ⟨v20, ev20, hf⟩ := lt_some hf
    refine n_imul hx hb ev20 dX14_keepFire_63 ?_
    obtain ⟨v21, ev21, hf⟩ := lt_some hf
    refine n_iadd hx hb ev21 dX14_keepFire_64 ?_
    refine lv_iconst (v := 2) hx hb dX14_keepFire_65 li_2 ?_
    obtain ⟨v22, ev22, hf⟩ := lt_some hf
    refine n_iadd hx hb ev22 dX14_keepFire_66 ?_
    refine lv_aload_n hx hb dX14_keepFire_67 rfl (lv_at hl 0 rfl) ?_
    refine g_getr (b := (o + 34)) hx hb hts hown hG hR gFx_X14_111_11 shM.1 ((shM.2 33 _ rfl).2) dX14_keepFire_68 ?_
    refine lv_iload_n hx hb dX14_keepFire_71 rfl (lv_at hl 2 rfl) ?_
    obtain ⟨c23, hf⟩ := gd_some hf
    obtain ⟨v24, ev24, hf⟩ := lt_some hf
    refine n_iald (x := a_wet) hx hb hG hR k_a_wet c23 (ova_get 3 hN_A rfl) ev24 dX14_keepFire_72 ?_
    obtain ⟨c25, hf⟩ := gd_some hf
    obtain ⟨u26, eu26, hf⟩ := lt_some hf
    refine n_iast (la' := [((o + 2), a_now), ((o + 32), a_fuel), ((o + 33), a_burn), ((o + 34), a_wet), ((o + 39), u26)]) hx hb hG hR hS k_a_stood c25 hN_A 4 rfl eu26 rfl dX14_keepFire_73 (fun H locs hR hS => ?_)
    obtain ⟨v27, ev27, hf⟩ := lt_some hf
    refine lv_iinc (k := 2) (v := v27) (lv' := [(2, .int v27), (0, .ref o), (1, .int p1)]) hx hb dX14_keepFire_74 hl rfl (by rw [ev27]; rfl) (by decide) rfl (fun ls hl => ?_)
    refine lv_goto (tgt := 2) hx hb dX14_keepFire_77 (by decide) ?_
    obtain rfl := some_i hf
    exact hk1 _ _ _ hR hS (lv_sub hl [1, 2, 0] rfl)
