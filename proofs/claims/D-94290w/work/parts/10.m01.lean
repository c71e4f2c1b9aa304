/-! the walks of PailRowModel (printed by tools) 1 -/
set_option maxRecDepth 100000
noncomputable def f14_bringFire_e1_0 (x1_0 : (Nat → Int32) × (Nat → Int32) × (Nat → Int32)) : Option ((Nat → Int32) × (Nat → Int32) × (Nat → Int32)) :=
  some x1_0

noncomputable def f14_bringFire_s1 (p1 : Int32) (a_now : Nat → Int32) (a_stood : Nat → Int32) (w1_2 : Int32) (w1_a_fuel : Nat → Int32) (w1_a_burn : Nat → Int32) (w1_a_wet : Nat → Int32) : Option ((Int32 × (Nat → Int32) × (Nat → Int32) × (Nat → Int32)) ⊕ ((Nat → Int32) × (Nat → Int32) × (Nat → Int32))) :=
  (f14_cells a_now).bind fun rr2 =>
  if rr2 ≤ w1_2 then
    some (.inr (w1_a_fuel, w1_a_burn, w1_a_wet))
  else
    lt ((192 : Int32) * p1) fun v4 =>
    lt ((3 : Int32) * w1_2) fun v5 =>
    lt (v4 + v5) fun v6 =>
    gd (inb v6 576) <|
    lt (a_stood v6.toNatClampNeg) fun v8 =>
    gd (inb w1_2 64) <|
    lt (upd w1_a_fuel w1_2.toNatClampNeg v8) fun u10 =>
    lt ((192 : Int32) * p1) fun v11 =>
    lt ((3 : Int32) * w1_2) fun v12 =>
    lt (v11 + v12) fun v13 =>
    lt (v13 + (1 : Int32)) fun v14 =>
    gd (inb v14 576) <|
    lt (a_stood v14.toNatClampNeg) fun v16 =>
    gd (inb w1_2 64) <|
    lt (upd w1_a_burn w1_2.toNatClampNeg v16) fun u18 =>
    lt ((192 : Int32) * p1) fun v19 =>
    lt ((3 : Int32) * w1_2) fun v20 =>
    lt (v19 + v20) fun v21 =>
    lt (v21 + (2 : Int32)) fun v22 =>
    gd (inb v22 576) <|
    lt (a_stood v22.toNatClampNeg) fun v24 =>
    gd (inb w1_2 64) <|
    lt (upd w1_a_wet w1_2.toNatClampNeg v24) fun u26 =>
    lt (w1_2 + (1 : Int32)) fun v27 =>
    some (.inl (v27, u10, u18, u26))

noncomputable def f14_bringFire (p1 : Int32) (a_now : Nat → Int32) (a_fuel : Nat → Int32) (a_burn : Nat → Int32) (a_wet : Nat → Int32) (a_stood : Nat → Int32) : Option ((Nat → Int32) × (Nat → Int32) × (Nat → Int32)) :=
  (whl (fun (s1 : Int32 × (Nat → Int32) × (Nat → Int32) × (Nat → Int32)) => f14_bringFire_s1 p1 a_now a_stood s1.1 s1.2.1 s1.2.2.1 s1.2.2.2) FU ((0 : Int32), a_fuel, a_burn, a_wet)).bind fun rl1 =>
  f14_bringFire_e1_0 rl1
set_option maxHeartbeats 4000000 in
theorem m14_bringFire (l : Launch) (G : gG) (K : gK) (I : gI) (J : gJ) (X : gX) (A : gI) (B : gJ) (Q : gX) (o : Nat) (shM : Sh K X o 11 rows11) (p1 : Int32) (a_now : Nat → Int32) (a_fuel : Nat → Int32) (a_burn : Nat → Int32) (a_wet : Nat → Int32) (a_stood : Nat → Int32) (e_a_now : A (o + 2) = a_now) (e_a_fuel : A (o + 32) = a_fuel) (e_a_burn : A (o + 33) = a_burn) (e_a_wet : A (o + 34) = a_wet) (e_a_stood : A (o + 39) = a_stood) (out : (Nat → Int32) × (Nat → Int32) × (Nat → Int32)) (hf : f14_bringFire p1 a_now a_fuel a_burn a_wet a_stood = some out) : GMet l yX14_bringFire cX14_bringFire 3 none (1) (20) G [.ref o, .int p1] K I J X A B Q none K I J X (ova A [((o + 2), a_now), ((o + 32), out.1), ((o + 33), out.2.1), ((o + 34), out.2.2), ((o + 39), a_stood)]) B Q 0 0 := by
  refine GMet.of (y := yX14_bringFire) rfl (Nat.le_of_ble_eq_true rfl) rfl ?_
  intro p e s m below meth c ls hx hb hr hml hlocks hts hown hname hG hR hl
  have hown : s.vm.findClass RX14 = some m.cls := hown
  have k_a_now : K (o + 2) = some (.inr (0, 800)) := (shM.2 1 _ rfl).1
  have k_a_fuel : K (o + 32) = some (.inr (0, 64)) := (shM.2 31 _ rfl).1
  have k_a_burn : K (o + 33) = some (.inr (0, 64)) := (shM.2 32 _ rfl).1
  have k_a_wet : K (o + 34) = some (.inr (0, 64)) := (shM.2 33 _ rfl).1
  have k_a_stood : K (o + 39) = some (.inr (0, 576)) := (shM.2 38 _ rfl).1
  have hN_A : nda [(o + 2), (o + 32), (o + 33), (o + 34), (o + 39)] := nd_off o [2, 32, 33, 34, 39] rfl
  have hR : RS G K I J X (ova A [((o + 2), a_now), ((o + 32), a_fuel), ((o + 33), a_burn), ((o + 34), a_wet), ((o + 39), a_stood)]) B Q s.heap := hR.to rfl rfl rfl (Eq.symm (ova_sc e_a_now (ova_sc e_a_fuel (ova_sc e_a_burn (ova_sc e_a_wet (ova_sc e_a_stood rfl)))))) rfl rfl
  have hS : va_S (gA G) s.heap s.heap [] := va_S.rf
  have hend : ∀ (pc : Nat) (H : Heap) (locs : List Loc) (ls : Array Slot), decode cX14_bringFire pc = .ok (.return_, 1) → RS G K I J X (ova A [((o + 2), a_now), ((o + 32), out.1), ((o + 33), out.2.1), ((o + 34), out.2.2), ((o + 39), a_stood)]) B Q H → va_S (gA G) s.heap H locs → W p l e ({ frames := 1, cells := 0, slots := 0, locals := 20 } : Room) s m ([.ref o, .int p1] : List Value).toArray below meth c H locs 0 0 (MQ below (gQ G none K I J X (ova A [((o + 2), a_now), ((o + 32), out.1), ((o + 33), out.2.1), ((o + 34), out.2.2), ((o + 39), a_stood)]) B Q) ([.ref o, .int p1] : List Value).toArray s 0 0 (gA G)) (F0 m pc ls []) := fun pc H locs ls hd hR hS => g_vret hx hb hr hlocks hG hR hS rfl hd
  generalize MQ below (gQ G none K I J X (ova A [((o + 2), a_now), ((o + 32), out.1), ((o + 33), out.2.1), ((o + 34), out.2.2), ((o + 39), a_stood)]) B Q) ([.ref o, .int p1] : List Value).toArray s 0 0 (gA G) = Z at hend ⊢
  generalize ([.ref o, .int p1] : List Value).toArray = args at hts hend ⊢
  unfold f14_bringFire at hf
  refine lv_iconst (v := 0) hx hb dX14_bringFire_0 li_0 ?_
  refine lv_istore_n (lv' := [(2, .int (0 : Int32)), (0, .ref o), (1, .int p1)]) hx hb dX14_bringFire_1 rfl hl (by decide) rfl (fun ls hl => ?_)
  obtain ⟨rl1, hw1, hfo1⟩ := bind_s hf
  have hx1_0 : ∀ (x1_0 : (Nat → Int32) × (Nat → Int32) × (Nat → Int32)), f14_bringFire_e1_0 x1_0 = some out → ∀ (pc : Nat) (H : Heap) (locs : List Loc) (ls : Array Slot), decode cX14_bringFire pc = .ok (.return_, 1) → RS G K I J X (ova A [((o + 2), a_now), ((o + 32), x1_0.1), ((o + 33), x1_0.2.1), ((o + 34), x1_0.2.2), ((o + 39), a_stood)]) B Q H → va_S (gA G) s.heap H locs → W p l e ({ frames := 1, cells := 0, slots := 0, locals := 20 } : Room) s m args below meth c H locs 0 0 Z (F0 m pc ls []) := by
    intro x1_0 hf pc H locs ls hd hR hS
    unfold f14_bringFire_e1_0 at hf
    obtain rfl := some_i hf
    exact hend _ _ _ _ hd hR hS
  refine whl_walk (P := fun (s1 : Int32 × (Nat → Int32) × (Nat → Int32) × (Nat → Int32)) => ∀ (H : Heap) (locs : List Loc) (ls : Array Slot), RS G K I J X (ova A [((o + 2), a_now), ((o + 32), s1.2.1), ((o + 33), s1.2.2.1), ((o + 34), s1.2.2.2), ((o + 39), a_stood)]) B Q H → va_S (gA G) s.heap H locs → lv_has ls 3 [(0, .ref o), (1, .int p1), (2, .int s1.1)] → W p l e ({ frames := 1, cells := 0, slots := 0, locals := 20 } : Room) s m args below meth c H locs 0 0 Z (F0 m 2 ls [])) (r := rl1) ?_ FU _ hw1 _ _ _ hR hS (lv_sub hl [1, 2, 0] rfl)
  clear hR hS hl hf
  intro s1 o1 hf hk1 H locs ls hR hS hl
  obtain ⟨w1_2, w1_a_fuel, w1_a_burn, w1_a_wet⟩ := s1
  have hf : f14_bringFire_s1 p1 a_now a_stood w1_2 w1_a_fuel w1_a_burn w1_a_wet = some o1 := hf
  have hR : RS G K I J X (ova A [((o + 2), a_now), ((o + 32), w1_a_fuel), ((o + 33), w1_a_burn), ((o + 34), w1_a_wet), ((o + 39), a_stood)]) B Q H := hR
  have hl : lv_has ls 3 [(0, .ref o), (1, .int p1), (2, .int w1_2)] := hl
  unfold f14_bringFire_s1 at hf
  refine lv_iload_n hx hb dX14_bringFire_2 rfl (lv_at hl 2 rfl) ?_
  refine lv_aload_n hx hb dX14_bringFire_3 rfl (lv_at hl 0 rfl) ?_
  obtain ⟨rr2, hrr2, hf⟩ := bind_s hf
  refine g0_cV (rm := (0, 0)) (As := []) (rest := [.int w1_2]) ⟨hx, hb, hml, hown, hts⟩ hG hR hS (m14_cells l G K I J X (ova A [((o + 2), a_now), ((o + 32), w1_a_fuel), ((o + 33), w1_a_burn), ((o + 34), w1_a_wet), ((o + 39), a_stood)]) B Q o shM a_now (ova_get 0 hN_A rfl) rr2 hrr2) (cwV 0 hts gi_X14_426 rfl rfl rfl hd_X14_cells ⟨Nat.le_of_ble_eq_true rfl, Nat.le_of_ble_eq_true rfl⟩) shM.1 rfl rfl hl.1 (Nat.le_of_ble_eq_true rfl) dX14_bringFire_4 ⟨Nat.le_refl _, Nat.le_refl _⟩ rfl (fun H locs hR hS => ?_)
  refine lv_icmp_ge (tgt := 80) hx hb dX14_bringFire_7 (by decide) (fun c3 => ?_) (fun c3 => ?_)
  · have hf := ite_t c3 hf
    obtain rfl := some_i hf
    replace hk1 : _ = rl1 := hk1
    subst hk1
    exact hx1_0 (w1_a_fuel, w1_a_burn, w1_a_wet) hfo1 _ _ _ _ dX14_bringFire_80 hR hS
  · have hf := ite_f c3 hf
    refine lv_aload_n hx hb dX14_bringFire_10 rfl (lv_at hl 0 rfl) ?_
    refine g_getr (b := (o + 32)) hx hb hts hown hG hR gFx_X14_105_11 shM.1 ((shM.2 31 _ rfl).2) dX14_bringFire_11 ?_
    refine lv_iload_n hx hb dX14_bringFire_14 rfl (lv_at hl 2 rfl) ?_
    refine lv_aload_n hx hb dX14_bringFire_15 rfl (lv_at hl 0 rfl) ?_
    refine g_getr (b := (o + 39)) hx hb hts hown hG hR gFx_X14_130_11 shM.1 ((shM.2 38 _ rfl).2) dX14_bringFire_16 ?_
    refine lv_sipush (v := 192) hx hb dX14_bringFire_19 ls_192 ?_
    refine lv_iload_n hx hb dX14_bringFire_22 rfl (lv_at hl 1 rfl) ?_
    obtain ⟨v4, ev4, hf⟩ := lt_some hf
    refine n_imul hx hb ev4 dX14_bringFire_23 ?_
    refine lv_iconst (v := 3) hx hb dX14_bringFire_24 li_3 ?_
    refine lv_iload_n hx hb dX14_bringFire_25 rfl (lv_at hl 2 rfl) ?_
    obtain ⟨v5, ev5, hf⟩ := lt_some hf
    refine n_imul hx hb ev5 dX14_bringFire_26 ?_
    obtain ⟨v6, ev6, hf⟩ := lt_some hf
    refine n_iadd hx hb ev6 dX14_bringFire_27 ?_
    obtain ⟨c7, hf⟩ := gd_some hf
    obtain ⟨v8, ev8, hf⟩ := lt_some hf
    refine n_iald (x := a_stood) hx hb hG hR k_a_stood c7 (ova_get 4 hN_A rfl) ev8 dX14_bringFire_28 ?_
    obtain ⟨c9, hf⟩ := gd_some hf
    obtain ⟨u10, eu10, hf⟩ := lt_some hf
    refine n_iast (la' := [((o + 2), a_now), ((o + 32), u10), ((o + 33), w1_a_burn), ((o + 34), w1_a_wet), ((o + 39), a_stood)]) hx hb hG hR hS k_a_fuel c9 hN_A 1 rfl eu10 rfl dX14_bringFire_29 (fun H locs hR hS => ?_)
    refine lv_aload_n hx hb dX14_bringFire_30 rfl (lv_at hl 0 rfl) ?_
    refine g_getr (b := (o + 33)) hx hb hts hown hG hR gFx_X14_108_11 shM.1 ((shM.2 32 _ rfl).2) dX14_bringFire_31 ?_
    refine lv_iload_n hx hb dX14_bringFire_34 rfl (lv_at hl 2 rfl) ?_
    refine lv_aload_n hx hb dX14_bringFire_35 rfl (lv_at hl 0 rfl) ?_
    refine g_getr (b := (o + 39)) hx hb hts hown hG hR gFx_X14_130_11 shM.1 ((shM.2 38 _ rfl).2) dX14_bringFire_36 ?_
    refine lv_sipush (v := 192) hx hb dX14_bringFire_39 ls_192 ?_
    refine lv_iload_n hx hb dX14_bringFire_42 rfl (lv_at hl 1 rfl) ?_
    obtain ⟨v11, ev11, hf⟩ := lt_some hf
    refine n_imul hx hb ev11 dX14_bringFire_43 ?_
    refine lv_iconst (v := 3) hx hb dX14_bringFire_44 li_3 ?_
    refine lv_iload_n hx hb dX14_bringFire_45 rfl (lv_at hl 2 rfl) ?_
    obtain ⟨v12, ev12, hf⟩ := lt_some hf
    refine n_imul hx hb ev12 dX14_bringFire_46 ?_
    obtain ⟨v13, ev13, hf⟩ := lt_some hf
    refine n_iadd hx hb ev13 dX14_bringFire_47 ?_
    refine lv_iconst (v := 1) hx hb dX14_bringFire_48 li_1 ?_
    obtain ⟨v14, ev14, hf⟩ := lt_some hf
    refine n_iadd hx hb ev14 dX14_bringFire_49 ?_
    obtain ⟨c15, hf⟩ := gd_some hf
    obtain ⟨v16, ev16, hf⟩ := lt_some hf
    refine n_iald (x := a_stood) hx hb hG hR k_a_stood c15 (ova_get 4 hN_A rfl) ev16 dX14_bringFire_50 ?_
    obtain ⟨c17, hf⟩ := gd_some hf
    obtain ⟨u18, eu18, hf⟩ := lt_some hf
    refine n_iast (la' := [((o + 2), a_now), ((o + 32), u10), ((o + 33), u18), ((o + 34), w1_a_wet), ((o + 39), a_stood)]) hx hb hG hR hS k_a_burn c17 hN_A 2 rfl eu18 rfl dX14_bringFire_51 (fun H locs hR hS => ?_)
    refine lv_aload_n hx hb dX14_bringFire_52 rfl (lv_at hl 0 rfl) ?_
    refine g_getr (b := (o + 34)) hx hb hts hown hG hR gFx_X14_111_11 shM.1 ((shM.2 33 _ rfl).2) dX14_bringFire_53 ?_
    refine lv_iload_n hx hb dX14_bringFire_56 rfl (lv_at hl 2 rfl) ?_
    refine lv_aload_n hx hb dX14_bringFire_57 rfl (lv_at hl 0 rfl) ?_
    refine g_getr (b := (o + 39)) hx hb hts hown hG hR gFx_X14_130_11 shM.1 ((shM.2 38 _ rfl).2) dX14_bringFire_58 ?_
    refine lv_sipush (v := 192) hx hb dX14_bringFire_61 ls_192 ?_
    refine lv_iload_n hx hb dX14_bringFire_64 rfl (lv_at hl 1 rfl) ?_
    obtain ⟨v19, ev19, hf⟩ := lt_some hf
    refine n_imul hx hb ev19 dX14_bringFire_65 ?_
    refine lv_iconst (v := 3) hx hb dX14_bringFire_66 li_3 ?_
    refine lv_iload_n hx hb dX14_bringFire_67 rfl (lv_at hl 2 rfl) ?_
    obtain ⟨v20, ev20, hf⟩ := lt_some hf
    refine n_imul hx hb ev20 dX14_bringFire_68 ?_
    obtain ⟨v21, ev21, hf⟩ := lt_some hf
    refine n_iadd hx hb ev21 dX14_bringFire_69 ?_
    refine lv_iconst (v := 2) hx hb dX14_bringFire_70 li_2 ?_
    obtain ⟨v22, ev22, hf⟩ := lt_some hf
    refine n_iadd hx hb ev22 dX14_bringFire_71 ?_
    obtain ⟨c23, hf⟩ := gd_some hf
    obtain ⟨v24, ev24, hf⟩ := lt_some hf
    refine n_iald (x := a_stood) hx hb hG hR k_a_stood c23 (ova_get 4 hN_A rfl) ev24 dX14_bringFire_72 ?_
    obtain ⟨c25, hf⟩ := gd_some hf
    obtain ⟨u26, eu26, hf⟩ := lt_some hf
    refine n_iast (la' := [((o + 2), a_now), ((o + 32), u10), ((o + 33), u18), ((o + 34), u26), ((o + 39), a_stood)]) hx hb hG hR hS k_a_wet c25 hN_A 3 rfl eu26 rfl dX14_bringFire_73 (fun H locs hR hS => ?_)
    obtain ⟨v27, ev27, hf⟩ := lt_some hf
    refine lv_iinc (k := 2) (v := v27) (lv' := [(2, .int v27), (0, .ref o), (1, .int p1)]) hx hb dX14_bringFire_74 hl rfl (by rw [ev27]; rfl) (by decide) rfl (fun ls hl => ?_)
    refine lv_goto (tgt := 2) hx hb dX14_bringFire_77 (by decide) ?_
    obtain rfl := some_i hf
    exact hk1 _ _ _ hR hS (lv_sub hl [1, 2, 0] rfl)
noncomputable def f14_aimAt_j26  : Option (Int32 × Int32) :=
  some ((-1 : Int32), (0 : Int32))

noncomputable def f14_aimAt (p1 : Int32) (i_thrown : Int32) (i_aimToldMany : Int32) (a_aimTold : Nat → Int32) : Option (Int32 × Int32) :=
  if p1 < 0 then
    f14_aimAt_j26
  else
    if i_aimToldMany ≤ p1 then
      f14_aimAt_j26
    else
      gd (inb p1 3) <|
      lt (a_aimTold p1.toNatClampNeg) fun v4 =>
      some (v4, (0 : Int32))
set_option maxHeartbeats 4000000 in
theorem m14_aimAt (l : Launch) (G : gG) (K : gK) (I : gI) (J : gJ) (X : gX) (A : gI) (B : gJ) (Q : gX) (o : Nat) (shM : Sh K X o 11 rows11) (p1 : Int32) (i_thrown : Int32) (i_aimToldMany : Int32) (a_aimTold : Nat → Int32) (e_i_thrown : I 1100 o = i_thrown) (e_i_aimToldMany : I 1183 o = i_aimToldMany) (e_a_aimTold : A (o + 42) = a_aimTold) (out : Int32 × Int32) (hf : f14_aimAt p1 i_thrown i_aimToldMany a_aimTold = some out) : GMet l yX14_aimAt cX14_aimAt 2 (some .int) (0) (0) G [.ref o, .int p1] K I J X A B Q (some (.int out.1)) K (ov I [(1100, o, out.2)]) J X A B Q 0 0 := by
  refine GMet.of (y := yX14_aimAt) rfl (Nat.le_of_ble_eq_true rfl) rfl ?_
  intro p e s m below meth c ls hx hb hr hml hlocks hts hown hname hG hR hl
  have hown : s.vm.findClass RX14 = some m.cls := hown
  have k_a_aimTold : K (o + 42) = some (.inr (0, 3)) := (shM.2 41 _ rfl).1
  have hR : RS G K (ov I [(1100, o, i_thrown)]) J X A B Q s.heap := hR.to (Eq.symm (ov_sc e_i_thrown rfl)) rfl rfl rfl rfl rfl
  have hS : va_S (gA G) s.heap s.heap [] := va_S.rf
  have hend : ∀ (pc : Nat) (H : Heap) (locs : List Loc) (ls : Array Slot), decode cX14_aimAt pc = .ok (.ireturn, 1) → RS G K (ov I [(1100, o, out.2)]) J X A B Q H → va_S (gA G) s.heap H locs → W p l e ({ frames := 0, cells := 0, slots := 0, locals := 0 } : Room) s m ([.ref o, .int p1] : List Value).toArray below meth c H locs 0 0 (MQ below (gQ G (some (.int out.1)) K (ov I [(1100, o, out.2)]) J X A B Q) ([.ref o, .int p1] : List Value).toArray s 0 0 (gA G)) (F0 m pc ls [.int out.1]) := fun pc H locs ls hd hR hS => g_iret hx hb hr hlocks hG hR hS rfl hd
  generalize MQ below (gQ G (some (.int out.1)) K (ov I [(1100, o, out.2)]) J X A B Q) ([.ref o, .int p1] : List Value).toArray s 0 0 (gA G) = Z at hend ⊢
  generalize ([.ref o, .int p1] : List Value).toArray = args at hts hend ⊢
  unfold f14_aimAt at hf
  refine lv_aload_n hx hb dX14_aimAt_0 rfl (lv_at hl 0 rfl) ?_
  refine lv_iconst (v := 0) hx hb dX14_aimAt_1 li_0 ?_
  refine n_puti (li' := [(1100, o, (0 : Int32))]) hx hb hts hown hG hR hS gPi_X14_148_11 shM.1 0 rfl rfl rfl dX14_aimAt_2 (fun H locs hR hS => ?_)
  refine lv_iload_n hx hb dX14_aimAt_5 rfl (lv_at hl 1 rfl) ?_
  have hj26 : ∀ (_ : Unit), f14_aimAt_j26 = some out → ∀ (H : Heap) (locs : List Loc) (ls : Array Slot), RS G K (ov I [(1100, o, (0 : Int32))]) J X A B Q H → va_S (gA G) s.heap H locs → lv_has ls 2 [(0, .ref o)] → W p l e ({ frames := 0, cells := 0, slots := 0, locals := 0 } : Room) s m args below meth c H locs 0 0 Z (F0 m 26 ls []) := by
    intro _ hf H locs ls hR hS hl
    unfold f14_aimAt_j26 at hf
    refine lv_iconst (v := -1) hx hb dX14_aimAt_26 li_m1 ?_
    obtain rfl := some_i hf
    exact hend _ _ _ _ dX14_aimAt_27 hR hS
  refine lv_if_lt (tgt := 26) hx hb dX14_aimAt_6 (by decide) (fun c1 => ?_) (fun c1 => ?_)
  · have hf := ite_t c1 hf
    exact hj26 () hf _ _ _ hR hS (lv_sub hl [0] rfl)
  · have hf := ite_f c1 hf
    refine lv_iload_n hx hb dX14_aimAt_9 rfl (lv_at hl 1 rfl) ?_
    refine lv_aload_n hx hb dX14_aimAt_10 rfl (lv_at hl 0 rfl) ?_
    refine n_geti (v := i_aimToldMany) hx hb hts hown hG hR gFi_X14_482_11 shM.1 ((congrFun (ov_no rfl) _).trans e_i_aimToldMany) dX14_aimAt_11 ?_
    refine lv_icmp_ge (tgt := 26) hx hb dX14_aimAt_14 (by decide) (fun c2 => ?_) (fun c2 => ?_)
    · have hf := ite_t c2 hf
      exact hj26 () hf _ _ _ hR hS (lv_sub hl [0] rfl)
    · have hf := ite_f c2 hf
      refine lv_aload_n hx hb dX14_aimAt_17 rfl (lv_at hl 0 rfl) ?_
      refine g_getr (b := (o + 42)) hx hb hts hown hG hR gFx_X14_139_11 shM.1 ((shM.2 41 _ rfl).2) dX14_aimAt_18 ?_
      refine lv_iload_n hx hb dX14_aimAt_21 rfl (lv_at hl 1 rfl) ?_
      obtain ⟨c3, hf⟩ := gd_some hf
      obtain ⟨v4, ev4, hf⟩ := lt_some hf
      refine n_iald (x := a_aimTold) hx hb hG hR k_a_aimTold c3 e_a_aimTold ev4 dX14_aimAt_22 ?_
      refine lv_goto (tgt := 27) hx hb dX14_aimAt_23 (by decide) ?_
      obtain rfl := some_i hf
      exact hend _ _ _ _ dX14_aimAt_27 hR hS
noncomputable def f14_givesUp_e1_0 (x1_0 : Int32 × (Nat → Int32) × (Nat → Int32)) : Option (Int32 × (Nat → Int32) × (Nat → Int32)) :=
  some (x1_0.1, x1_0.2.1, x1_0.2.2)

noncomputable def f14_givesUp_s1 (p1 : Int32) (a_now : Nat → Int32) (w1_2 : Int32) (w1_3 : Int32) (w1_a_fuel : Nat → Int32) (w1_a_burn : Nat → Int32) : Option ((Int32 × Int32 × (Nat → Int32) × (Nat → Int32)) ⊕ (Int32 × (Nat → Int32) × (Nat → Int32))) :=
  gd (inb (10 : Int32) 800) <|
  lt (a_now (10 : Int32).toNatClampNeg) fun v3 =>
  if v3 ≤ w1_3 then
    some (.inr (w1_2, w1_a_fuel, w1_a_burn))
  else
    (f14_columns a_now).bind fun rr5 =>
    lt (rr5 * w1_3) fun v6 =>
    lt (v6 + p1) fun v7 =>
    gd (inb v7 64) <|
    lt (w1_a_fuel v7.toNatClampNeg) fun v9 =>
    lt (w1_2 + v9) fun v10 =>
    gd (inb v7 64) <|
    lt (upd w1_a_fuel v7.toNatClampNeg (0 : Int32)) fun u12 =>
    gd (inb v7 64) <|
    lt (upd w1_a_burn v7.toNatClampNeg (0 : Int32)) fun u14 =>
    lt (w1_3 + (1 : Int32)) fun v15 =>
    some (.inl (v10, v15, u12, u14))

noncomputable def f14_givesUp (p1 : Int32) (a_now : Nat → Int32) (a_fuel : Nat → Int32) (a_burn : Nat → Int32) : Option (Int32 × (Nat → Int32) × (Nat → Int32)) :=
  (whl (fun (s1 : Int32 × Int32 × (Nat → Int32) × (Nat → Int32)) => f14_givesUp_s1 p1 a_now s1.1 s1.2.1 s1.2.2.1 s1.2.2.2) FU ((0 : Int32), (0 : Int32), a_fuel, a_burn)).bind fun rl1 =>
  f14_givesUp_e1_0 rl1
set_option maxHeartbeats 4000000 in
theorem m14_givesUp (l : Launch) (G : gG) (K : gK) (I : gI) (J : gJ) (X : gX) (A : gI) (B : gJ) (Q : gX) (o : Nat) (shM : Sh K X o 11 rows11) (p1 : Int32) (a_now : Nat → Int32) (a_fuel : Nat → Int32) (a_burn : Nat → Int32) (e_a_now : A (o + 2) = a_now) (e_a_fuel : A (o + 32) = a_fuel) (e_a_burn : A (o + 33) = a_burn) (out : Int32 × (Nat → Int32) × (Nat → Int32)) (hf : f14_givesUp p1 a_now a_fuel a_burn = some out) : GMet l yX14_givesUp cX14_givesUp 5 (some .int) (1) (20) G [.ref o, .int p1] K I J X A B Q (some (.int out.1)) K I J X (ova A [((o + 2), a_now), ((o + 32), out.2.1), ((o + 33), out.2.2)]) B Q 0 0 := by
  refine GMet.of (y := yX14_givesUp) rfl (Nat.le_of_ble_eq_true rfl) rfl ?_
  intro p e s m below meth c ls hx hb hr hml hlocks hts hown hname hG hR hl
  have hown : s.vm.findClass RX14 = some m.cls := hown
  have k_a_now : K (o + 2) = some (.inr (0, 800)) := (shM.2 1 _ rfl).1
  have k_a_fuel : K (o + 32) = some (.inr (0, 64)) := (shM.2 31 _ rfl).1
  have k_a_burn : K (o + 33) = some (.inr (0, 64)) := (shM.2 32 _ rfl).1
  have hN_A : nda [(o + 2), (o + 32), (o + 33)] := nd_off o [2, 32, 33] rfl
  have hR : RS G K I J X (ova A [((o + 2), a_now), ((o + 32), a_fuel), ((o + 33), a_burn)]) B Q s.heap := hR.to rfl rfl rfl (Eq.symm (ova_sc e_a_now (ova_sc e_a_fuel (ova_sc e_a_burn rfl)))) rfl rfl
  have hS : va_S (gA G) s.heap s.heap [] := va_S.rf
  have hend : ∀ (pc : Nat) (H : Heap) (locs : List Loc) (ls : Array Slot), decode cX14_givesUp pc = .ok (.ireturn, 1) → RS G K I J X (ova A [((o + 2), a_now), ((o + 32), out.2.1), ((o + 33), out.2.2)]) B Q H → va_S (gA G) s.heap H locs → W p l e ({ frames := 1, cells := 0, slots := 0, locals := 20 } : Room) s m ([.ref o, .int p1] : List Value).toArray below meth c H locs 0 0 (MQ below (gQ G (some (.int out.1)) K I J X (ova A [((o + 2), a_now), ((o + 32), out.2.1), ((o + 33), out.2.2)]) B Q) ([.ref o, .int p1] : List Value).toArray s 0 0 (gA G)) (F0 m pc ls [.int out.1]) := fun pc H locs ls hd hR hS => g_iret hx hb hr hlocks hG hR hS rfl hd
  generalize MQ below (gQ G (some (.int out.1)) K I J X (ova A [((o + 2), a_now), ((o + 32), out.2.1), ((o + 33), out.2.2)]) B Q) ([.ref o, .int p1] : List Value).toArray s 0 0 (gA G) = Z at hend ⊢
  generalize ([.ref o, .int p1] : List Value).toArray = args at hts hend ⊢
  unfold f14_givesUp at hf
  refine lv_iconst (v := 0) hx hb dX14_givesUp_0 li_0 ?_
  refine lv_istore_n (lv' := [(2, .int (0 : Int32)), (0, .ref o), (1, .int p1)]) hx hb dX14_givesUp_1 rfl hl (by decide) rfl (fun ls hl => ?_)
  refine lv_iconst (v := 0) hx hb dX14_givesUp_2 li_0 ?_
  refine lv_istore_n (lv' := [(3, .int (0 : Int32)), (2, .int (0 : Int32)), (0, .ref o), (1, .int p1)]) hx hb dX14_givesUp_3 rfl hl (by decide) rfl (fun ls hl => ?_)
  obtain ⟨rl1, hw1, hfo1⟩ := bind_s hf
  have hx1_0 : ∀ (x1_0 : Int32 × (Nat → Int32) × (Nat → Int32)), f14_givesUp_e1_0 x1_0 = some out → ∀ (H : Heap) (locs : List Loc) (ls : Array Slot), RS G K I J X (ova A [((o + 2), a_now), ((o + 32), x1_0.2.1), ((o + 33), x1_0.2.2)]) B Q H → va_S (gA G) s.heap H locs → lv_has ls 5 [(0, .ref o), (2, .int x1_0.1)] → W p l e ({ frames := 1, cells := 0, slots := 0, locals := 20 } : Room) s m args below meth c H locs 0 0 Z (F0 m 57 ls []) := by
    intro x1_0 hf H locs ls hR hS hl
    unfold f14_givesUp_e1_0 at hf
    refine lv_iload_n hx hb dX14_givesUp_57 rfl (lv_at hl 1 rfl) ?_
    obtain rfl := some_i hf
    exact hend _ _ _ _ dX14_givesUp_58 hR hS
  refine whl_walk (P := fun (s1 : Int32 × Int32 × (Nat → Int32) × (Nat → Int32)) => ∀ (H : Heap) (locs : List Loc) (ls : Array Slot), RS G K I J X (ova A [((o + 2), a_now), ((o + 32), s1.2.2.1), ((o + 33), s1.2.2.2)]) B Q H → va_S (gA G) s.heap H locs → lv_has ls 5 [(0, .ref o), (1, .int p1), (2, .int s1.1), (3, .int s1.2.1)] → W p l e ({ frames := 1, cells := 0, slots := 0, locals := 20 } : Room) s m args below meth c H locs 0 0 Z (F0 m 4 ls [])) (r := rl1) ?_ FU _ hw1 _ _ _ hR hS (lv_sub hl [2, 3, 1, 0] rfl)
  clear hR hS hl hf
  intro s1 o1 hf hk1 H locs ls hR hS hl
  obtain ⟨w1_2, w1_3, w1_a_fuel, w1_a_burn⟩ := s1
  have hf : f14_givesUp_s1 p1 a_now w1_2 w1_3 w1_a_fuel w1_a_burn = some o1 := hf
  have hR : RS G K I J X (ova A [((o + 2), a_now), ((o + 32), w1_a_fuel), ((o + 33), w1_a_burn)]) B Q H := hR
  have hl : lv_has ls 5 [(0, .ref o), (1, .int p1), (2, .int w1_2), (3, .int w1_3)] := hl
  unfold f14_givesUp_s1 at hf
  refine lv_iload_n hx hb dX14_givesUp_4 rfl (lv_at hl 3 rfl) ?_
  refine lv_aload_n hx hb dX14_givesUp_5 rfl (lv_at hl 0 rfl) ?_
  refine g_getr (b := (o + 2)) hx hb hts hown hG hR gFx_X14_13_11 shM.1 ((shM.2 1 _ rfl).2) dX14_givesUp_6 ?_
  refine lv_bipush (v := 10) hx hb dX14_givesUp_9 lb_10 ?_
  obtain ⟨c2, hf⟩ := gd_some hf
  obtain ⟨v3, ev3, hf⟩ := lt_some hf
  refine n_iald (x := a_now) hx hb hG hR k_a_now c2 (ova_get 0 hN_A rfl) ev3 dX14_givesUp_11 ?_
  refine lv_icmp_ge (tgt := 57) hx hb dX14_givesUp_12 (by decide) (fun c4 => ?_) (fun c4 => ?_)
  · have hf := ite_t c4 hf
    obtain rfl := some_i hf
    replace hk1 : _ = rl1 := hk1
    subst hk1
    exact hx1_0 (w1_2, w1_a_fuel, w1_a_burn) hfo1 _ _ _ hR hS (lv_sub hl [0, 2] rfl)
  · have hf := ite_f c4 hf
    refine lv_aload_n hx hb dX14_givesUp_15 rfl (lv_at hl 0 rfl) ?_
    obtain ⟨rr5, hrr5, hf⟩ := bind_s hf
    refine g0_cV (rm := (0, 0)) (As := []) (rest := []) ⟨hx, hb, hml, hown, hts⟩ hG hR hS (m14_columns l G K I J X (ova A [((o + 2), a_now), ((o + 32), w1_a_fuel), ((o + 33), w1_a_burn)]) B Q o shM a_now (ova_get 0 hN_A rfl) rr5 hrr5) (cwV 0 hts gi_X14_298 rfl rfl rfl hd_X14_columns ⟨Nat.le_of_ble_eq_true rfl, Nat.le_of_ble_eq_true rfl⟩) shM.1 rfl rfl hl.1 (Nat.le_of_ble_eq_true rfl) dX14_givesUp_16 ⟨Nat.le_refl _, Nat.le_refl _⟩ rfl (fun H locs hR hS => ?_)
    refine lv_iload_n hx hb dX14_givesUp_19 rfl (lv_at hl 3 rfl) ?_
    obtain ⟨v6, ev6, hf⟩ := lt_some hf
    refine n_imul hx hb ev6 dX14_givesUp_20 ?_
    refine lv_iload_n hx hb dX14_givesUp_21 rfl (lv_at hl 1 rfl) ?_
    obtain ⟨v7, ev7, hf⟩ := lt_some hf
    refine n_iadd hx hb ev7 dX14_givesUp_22 ?_
    refine lv_istore (lv' := [(4, .int v7), (0, .ref o), (1, .int p1), (2, .int w1_2), (3, .int w1_3)]) hx hb dX14_givesUp_23 hl (by decide) rfl (fun ls hl => ?_)
    refine lv_iload_n hx hb dX14_givesUp_25 rfl (lv_at hl 3 rfl) ?_
    refine lv_aload_n hx hb dX14_givesUp_26 rfl (lv_at hl 1 rfl) ?_
    refine g_getr (b := (o + 32)) hx hb hts hown hG hR gFx_X14_105_11 shM.1 ((shM.2 31 _ rfl).2) dX14_givesUp_27 ?_
    refine lv_iload hx hb dX14_givesUp_30 (lv_at hl 0 rfl) ?_
    obtain ⟨c8, hf⟩ := gd_some hf
    obtain ⟨v9, ev9, hf⟩ := lt_some hf
    refine n_iald (x := w1_a_fuel) hx hb hG hR k_a_fuel c8 (ova_get 1 hN_A rfl) ev9 dX14_givesUp_32 ?_
    obtain ⟨v10, ev10, hf⟩ := lt_some hf
    refine n_iadd hx hb ev10 dX14_givesUp_33 ?_
    refine lv_istore_n (lv' := [(2, .int v10), (4, .int v7), (0, .ref o), (1, .int p1), (3, .int w1_3)]) hx hb dX14_givesUp_34 rfl hl (by decide) rfl (fun ls hl => ?_)
    refine lv_aload_n hx hb dX14_givesUp_35 rfl (lv_at hl 2 rfl) ?_
    refine g_getr (b := (o + 32)) hx hb hts hown hG hR gFx_X14_105_11 shM.1 ((shM.2 31 _ rfl).2) dX14_givesUp_36 ?_
    refine lv_iload hx hb dX14_givesUp_39 (lv_at hl 1 rfl) ?_
    refine lv_iconst (v := 0) hx hb dX14_givesUp_41 li_0 ?_
    obtain ⟨c11, hf⟩ := gd_some hf
    obtain ⟨u12, eu12, hf⟩ := lt_some hf
    refine n_iast (la' := [((o + 2), a_now), ((o + 32), u12), ((o + 33), w1_a_burn)]) hx hb hG hR hS k_a_fuel c11 hN_A 1 rfl eu12 rfl dX14_givesUp_42 (fun H locs hR hS => ?_)
    refine lv_aload_n hx hb dX14_givesUp_43 rfl (lv_at hl 2 rfl) ?_
    refine g_getr (b := (o + 33)) hx hb hts hown hG hR gFx_X14_108_11 shM.1 ((shM.2 32 _ rfl).2) dX14_givesUp_44 ?_
    refine lv_iload hx hb dX14_givesUp_47 (lv_at hl 1 rfl) ?_
    refine lv_iconst (v := 0) hx hb dX14_givesUp_49 li_0 ?_
    obtain ⟨c13, hf⟩ := gd_some hf
    obtain ⟨u14, eu14, hf⟩ := lt_some hf
    refine n_iast (la' := [((o + 2), a_now), ((o + 32), u12), ((o + 33), u14)]) hx hb hG hR hS k_a_burn c13 hN_A 2 rfl eu14 rfl dX14_givesUp_50 (fun H locs hR hS => ?_)
    obtain ⟨v15, ev15, hf⟩ := lt_some hf
    refine lv_iinc (k := 4) (v := v15) (lv' := [(3, .int v15), (2, .int v10), (4, .int v7), (0, .ref o), (1, .int p1)]) hx hb dX14_givesUp_51 hl rfl (by rw [ev15]; rfl) (by decide) rfl (fun ls hl => ?_)
    refine lv_goto (tgt := 4) hx hb dX14_givesUp_54 (by decide) ?_
    obtain rfl := some_i hf
    exact hk1 _ _ _ hR hS (lv_sub hl [3, 4, 1, 0] rfl)
noncomputable def f14_manAtHand_e1_0 (x1_0 : Int32) : Option (Int32) :=
  some x1_0

noncomputable def f14_manAtHand_e1_1 (x1_1 : Int32) : Option (Int32) :=
  some x1_1

noncomputable def f14_manAtHand_s1 (j_word : Int64) (a_now : Nat → Int32) (b_name : Nat → Int64) (w1_1 : Int32) : Option ((Int32) ⊕ ((Int32) ⊕ (Int32))) :=
  (f14_men a_now).bind fun rr2 =>
  if rr2 ≤ w1_1 then
    some (.inr (.inr (-1 : Int32)))
  else
    gd (inb w1_1 12) <|
    lt (b_name w1_1.toNatClampNeg) fun v5 =>
    lt (lg_cmp v5 j_word) fun v6 =>
    if v6 = 0 then
      some (.inr (.inl w1_1))
    else
      lt (w1_1 + (1 : Int32)) fun v8 =>
      some (.inl v8)

noncomputable def f14_manAtHand (j_word : Int64) (a_now : Nat → Int32) (b_name : Nat → Int64) : Option (Int32) :=
  (whl (fun (s1 : Int32) => f14_manAtHand_s1 j_word a_now b_name s1) FU (0 : Int32)).bind fun rl1 =>
  Sum.elim (f14_manAtHand_e1_0) (f14_manAtHand_e1_1) rl1
set_option maxHeartbeats 4000000 in
theorem m14_manAtHand (l : Launch) (G : gG) (K : gK) (I : gI) (J : gJ) (X : gX) (A : gI) (B : gJ) (Q : gX) (o : Nat) (shM : Sh K X o 11 rows11)  (j_word : Int64) (a_now : Nat → Int32) (b_name : Nat → Int64) (e_j_word : J 1112 o = j_word) (e_a_now : A (o + 2) = a_now) (e_b_name : B (o + 6) = b_name) (out : Int32) (hf : f14_manAtHand j_word a_now b_name = some out) : GMet l yX14_manAtHand cX14_manAtHand 2 (some .int) (1) (20) G [.ref o] K I J X A B Q (some (.int out)) K I J X A B Q 0 0 := by
  refine GMet.of (y := yX14_manAtHand) rfl (Nat.le_of_ble_eq_true rfl) rfl ?_
  intro p e s m below meth c ls hx hb hr hml hlocks hts hown hname hG hR hl
  have hown : s.vm.findClass RX14 = some m.cls := hown
  have k_a_now : K (o + 2) = some (.inr (0, 800)) := (shM.2 1 _ rfl).1
  have k_b_name : K (o + 6) = some (.inr (3, 12)) := (shM.2 5 _ rfl).1
  have hR : RS G K I J X A B Q s.heap := hR.to rfl rfl rfl rfl rfl rfl
  have hS : va_S (gA G) s.heap s.heap [] := va_S.rf
  have hend : ∀ (pc : Nat) (H : Heap) (locs : List Loc) (ls : Array Slot), decode cX14_manAtHand pc = .ok (.ireturn, 1) → RS G K I J X A B Q H → va_S (gA G) s.heap H locs → W p l e ({ frames := 1, cells := 0, slots := 0, locals := 20 } : Room) s m ([.ref o] : List Value).toArray below meth c H locs 0 0 (MQ below (gQ G (some (.int out)) K I J X A B Q) ([.ref o] : List Value).toArray s 0 0 (gA G)) (F0 m pc ls [.int out]) := fun pc H locs ls hd hR hS => g_iret hx hb hr hlocks hG hR hS rfl hd
  generalize MQ below (gQ G (some (.int out)) K I J X A B Q) ([.ref o] : List Value).toArray s 0 0 (gA G) = Z at hend ⊢
  generalize ([.ref o] : List Value).toArray = args at hts hend ⊢
  unfold f14_manAtHand at hf
  refine lv_iconst (v := 0) hx hb dX14_manAtHand_0 li_0 ?_
  refine lv_istore_n (lv' := [(1, .int (0 : Int32)), (0, .ref o)]) hx hb dX14_manAtHand_1 rfl hl (by decide) rfl (fun ls hl => ?_)
  obtain ⟨rl1, hw1, hfo1⟩ := bind_s hf
  have hx1_0 : ∀ (x1_0 : Int32), f14_manAtHand_e1_0 x1_0 = some out → ∀ (H : Heap) (locs : List Loc) (ls : Array Slot), RS G K I J X A B Q H → va_S (gA G) s.heap H locs → lv_has ls 2 [(0, .ref o), (1, .int x1_0)] → W p l e ({ frames := 1, cells := 0, slots := 0, locals := 20 } : Room) s m args below meth c H locs 0 0 Z (F0 m 24 ls []) := by
    intro x1_0 hf H locs ls hR hS hl
    unfold f14_manAtHand_e1_0 at hf
    refine lv_iload_n hx hb dX14_manAtHand_24 rfl (lv_at hl 1 rfl) ?_
    obtain rfl := some_i hf
    exact hend _ _ _ _ dX14_manAtHand_25 hR hS
  have hx1_1 : ∀ (x1_1 : Int32), f14_manAtHand_e1_1 x1_1 = some out → ∀ (pc : Nat) (H : Heap) (locs : List Loc) (ls : Array Slot), decode cX14_manAtHand pc = .ok (.ireturn, 1) → RS G K I J X A B Q H → va_S (gA G) s.heap H locs → W p l e ({ frames := 1, cells := 0, slots := 0, locals := 20 } : Room) s m args below meth c H locs 0 0 Z (F0 m pc ls [.int x1_1]) := by
    intro x1_1 hf pc H locs ls hd hR hS
    unfold f14_manAtHand_e1_1 at hf
    obtain rfl := some_i hf
    exact hend _ _ _ _ hd hR hS
  refine whl_walk (P := fun (s1 : Int32) => ∀ (H : Heap) (locs : List Loc) (ls : Array Slot), RS G K I J X A B Q H → va_S (gA G) s.heap H locs → lv_has ls 2 [(0, .ref o), (1, .int s1)] → W p l e ({ frames := 1, cells := 0, slots := 0, locals := 20 } : Room) s m args below meth c H locs 0 0 Z (F0 m 2 ls [])) (r := rl1) ?_ FU _ hw1 _ _ _ hR hS (lv_sub hl [1, 0] rfl)
  clear hR hS hl hf
  intro s1 o1 hf hk1 H locs ls hR hS hl
  obtain ⟨w1_1, rfl⟩ : ∃ z, z = s1 := ⟨_, rfl⟩
  have hf : f14_manAtHand_s1 j_word a_now b_name w1_1 = some o1 := hf
  have hR : RS G K I J X A B Q H := hR
  have hl : lv_has ls 2 [(0, .ref o), (1, .int w1_1)] := hl
  unfold f14_manAtHand_s1 at hf
  refine lv_iload_n hx hb dX14_manAtHand_2 rfl (lv_at hl 1 rfl) ?_
  refine lv_aload_n hx hb dX14_manAtHand_3 rfl (lv_at hl 0 rfl) ?_
  obtain ⟨rr2, hrr2, hf⟩ := bind_s hf
  refine g0_cV (rm := (0, 0)) (As := []) (rest := [.int w1_1]) ⟨hx, hb, hml, hown, hts⟩ hG hR hS (m14_men l G K I J X A B Q o shM a_now e_a_now rr2 hrr2) (cwV 0 hts gi_X14_288 rfl rfl rfl hd_X14_men ⟨Nat.le_of_ble_eq_true rfl, Nat.le_of_ble_eq_true rfl⟩) shM.1 rfl rfl hl.1 (Nat.le_of_ble_eq_true rfl) dX14_manAtHand_4 ⟨Nat.le_refl _, Nat.le_refl _⟩ rfl (fun H locs hR hS => ?_)
  refine lv_icmp_ge (tgt := 32) hx hb dX14_manAtHand_7 (by decide) (fun c3 => ?_) (fun c3 => ?_)
  · have hf := ite_t c3 hf
    refine lv_iconst (v := -1) hx hb dX14_manAtHand_32 li_m1 ?_
    obtain rfl := some_i hf
    replace hk1 : _ = rl1 := hk1
    subst hk1
    exact hx1_1 (-1 : Int32) (el_r hfo1) _ _ _ _ dX14_manAtHand_33 hR hS
  · have hf := ite_f c3 hf
    refine lv_aload_n hx hb dX14_manAtHand_10 rfl (lv_at hl 0 rfl) ?_
    refine g_getr (b := (o + 6)) hx hb hts hown hG hR gFx_X14_25_11 shM.1 ((shM.2 5 _ rfl).2) dX14_manAtHand_11 ?_
    refine lv_iload_n hx hb dX14_manAtHand_14 rfl (lv_at hl 1 rfl) ?_
    obtain ⟨c4, hf⟩ := gd_some hf
    obtain ⟨v5, ev5, hf⟩ := lt_some hf
    refine n_lald (x := b_name) hx hb hG hR k_b_name c4 e_b_name ev5 dX14_manAtHand_15 ?_
    refine lv_aload_n hx hb dX14_manAtHand_16 rfl (lv_at hl 0 rfl) ?_
    refine n_getj (v := j_word) hx hb hts hown hG hR gFj_X14_183_11 shM.1 e_j_word dX14_manAtHand_17 ?_
    obtain ⟨v6, ev6, hf⟩ := lt_some hf
    refine n_lcmp hx hb ev6 dX14_manAtHand_20 ?_
    refine lv_if_ne (tgt := 26) hx hb dX14_manAtHand_21 (by decide) (fun c7 => ?_) (fun c7 => ?_)
    · have hf := ite_f c7 hf
      obtain ⟨v8, ev8, hf⟩ := lt_some hf
      refine lv_iinc (k := 1) (v := v8) (lv' := [(1, .int v8), (0, .ref o)]) hx hb dX14_manAtHand_26 hl rfl (by rw [ev8]; rfl) (by decide) rfl (fun ls hl => ?_)
      refine lv_goto (tgt := 2) hx hb dX14_manAtHand_29 (by decide) ?_
      obtain rfl := some_i hf
      exact hk1 _ _ _ hR hS (lv_sub hl [1, 0] rfl)
    · have hf := ite_t c7 hf
      obtain rfl := some_i hf
      replace hk1 : _ = rl1 := hk1
      subst hk1
      exact hx1_0 w1_1 (el_l hfo1) _ _ _ hR hS (lv_sub hl [0, 1] rfl)
noncomputable def f14_lays (p1 : Int32) (p2 : Int32) (p3 : Int32) (p4 : Int32) (i_nodes : Int32) (a_node : Nat → Int32) : Option (Int32 × Int32 × (Nat → Int32)) :=
  lt ((4 : Int32) * i_nodes) fun v1 =>
  gd (inb v1 240) <|
  lt (upd a_node v1.toNatClampNeg p1) fun u3 =>
  lt (v1 + (1 : Int32)) fun v4 =>
  gd (inb v4 240) <|
  lt (upd u3 v4.toNatClampNeg p2) fun u6 =>
  lt (v1 + (2 : Int32)) fun v7 =>
  gd (inb v7 240) <|
  lt (upd u6 v7.toNatClampNeg p3) fun u9 =>
  lt (v1 + (3 : Int32)) fun v10 =>
  gd (inb v10 240) <|
  lt (upd u9 v10.toNatClampNeg p4) fun u12 =>
  lt (i_nodes + (1 : Int32)) fun v13 =>
  lt (v13 - (1 : Int32)) fun v14 =>
  some (v14, v13, u12)
set_option maxHeartbeats 4000000 in
theorem m14_lays (l : Launch) (G : gG) (K : gK) (I : gI) (J : gJ) (X : gX) (A : gI) (B : gJ) (Q : gX) (o : Nat) (shM : Sh K X o 11 rows11) (p1 : Int32) (p2 : Int32) (p3 : Int32) (p4 : Int32) (i_nodes : Int32) (a_node : Nat → Int32) (e_i_nodes : I 1187 o = i_nodes) (e_a_node : A (o + 44) = a_node) (out : Int32 × Int32 × (Nat → Int32)) (hf : f14_lays p1 p2 p3 p4 i_nodes a_node = some out) : GMet l yX14_lays cX14_lays 6 (some .int) (0) (0) G [.ref o, .int p1, .int p2, .int p3, .int p4] K I J X A B Q (some (.int out.1)) K (ov I [(1187, o, out.2.1)]) J X (ova A [((o + 44), out.2.2)]) B Q 0 0 := by
  refine GMet.of (y := yX14_lays) rfl (Nat.le_of_ble_eq_true rfl) rfl ?_
  intro p e s m below meth c ls hx hb hr hml hlocks hts hown hname hG hR hl
  have hown : s.vm.findClass RX14 = some m.cls := hown
  have k_a_node : K (o + 44) = some (.inr (0, 240)) := (shM.2 43 _ rfl).1
  have hN_A : nda [(o + 44)] := nd_off o [44] rfl
  have hR : RS G K (ov I [(1187, o, i_nodes)]) J X (ova A [((o + 44), a_node)]) B Q s.heap := hR.to (Eq.symm (ov_sc e_i_nodes rfl)) rfl rfl (Eq.symm (ova_sc e_a_node rfl)) rfl rfl
  have hS : va_S (gA G) s.heap s.heap [] := va_S.rf
  have hend : ∀ (pc : Nat) (H : Heap) (locs : List Loc) (ls : Array Slot), decode cX14_lays pc = .ok (.ireturn, 1) → RS G K (ov I [(1187, o, out.2.1)]) J X (ova A [((o + 44), out.2.2)]) B Q H → va_S (gA G) s.heap H locs → W p l e ({ frames := 0, cells := 0, slots := 0, locals := 0 } : Room) s m ([.ref o, .int p1, .int p2, .int p3, .int p4] : List Value).toArray below meth c H locs 0 0 (MQ below (gQ G (some (.int out.1)) K (ov I [(1187, o, out.2.1)]) J X (ova A [((o + 44), out.2.2)]) B Q) ([.ref o, .int p1, .int p2, .int p3, .int p4] : List Value).toArray s 0 0 (gA G)) (F0 m pc ls [.int out.1]) := fun pc H locs ls hd hR hS => g_iret hx hb hr hlocks hG hR hS rfl hd
  generalize MQ below (gQ G (some (.int out.1)) K (ov I [(1187, o, out.2.1)]) J X (ova A [((o + 44), out.2.2)]) B Q) ([.ref o, .int p1, .int p2, .int p3, .int p4] : List Value).toArray s 0 0 (gA G) = Z at hend ⊢
  generalize ([.ref o, .int p1, .int p2, .int p3, .int p4] : List Value).toArray = args at hts hend ⊢
  unfold f14_lays at hf
  refine lv_iconst (v := 4) hx hb dX14_lays_0 li_4 ?_
  refine lv_aload_n hx hb dX14_lays_1 rfl (lv_at hl 0 rfl) ?_
  refine n_geti (v := i_nodes) hx hb hts hown hG hR gFi_X14_503_11 shM.1 (ov_get 0 rfl rfl) dX14_lays_2 ?_
  obtain ⟨v1, ev1, hf⟩ := lt_some hf
  refine n_imul hx hb ev1 dX14_lays_5 ?_
  refine lv_istore (lv' := [(5, .int v1), (0, .ref o), (1, .int p1), (2, .int p2), (3, .int p3), (4, .int p4)]) hx hb dX14_lays_6 hl (by decide) rfl (fun ls hl => ?_)
  refine lv_aload_n hx hb dX14_lays_8 rfl (lv_at hl 1 rfl) ?_
  refine g_getr (b := (o + 44)) hx hb hts hown hG hR gFx_X14_145_11 shM.1 ((shM.2 43 _ rfl).2) dX14_lays_9 ?_
  refine lv_iload hx hb dX14_lays_12 (lv_at hl 0 rfl) ?_
  refine lv_iload_n hx hb dX14_lays_14 rfl (lv_at hl 2 rfl) ?_
  obtain ⟨c2, hf⟩ := gd_some hf
  obtain ⟨u3, eu3, hf⟩ := lt_some hf
  refine n_iast (la' := [((o + 44), u3)]) hx hb hG hR hS k_a_node c2 hN_A 0 rfl eu3 rfl dX14_lays_15 (fun H locs hR hS => ?_)
  refine lv_aload_n hx hb dX14_lays_16 rfl (lv_at hl 1 rfl) ?_
  refine g_getr (b := (o + 44)) hx hb hts hown hG hR gFx_X14_145_11 shM.1 ((shM.2 43 _ rfl).2) dX14_lays_17 ?_
  refine lv_iload hx hb dX14_lays_20 (lv_at hl 0 rfl) ?_
  refine lv_iconst (v := 1) hx hb dX14_lays_22 li_1 ?_
  obtain ⟨v4, ev4, hf⟩ := lt_some hf
  refine n_iadd hx hb ev4 dX14_lays_23 ?_
  refine lv_iload_n hx hb dX14_lays_24 rfl (lv_at hl 3 rfl) ?_
  obtain ⟨c5, hf⟩ := gd_some hf
  obtain ⟨u6, eu6, hf⟩ := lt_some hf
  refine n_iast (la' := [((o + 44), u6)]) hx hb hG hR hS k_a_node c5 hN_A 0 rfl eu6 rfl dX14_lays_25 (fun H locs hR hS => ?_)
  refine lv_aload_n hx hb dX14_lays_26 rfl (lv_at hl 1 rfl) ?_
  refine g_getr (b := (o + 44)) hx hb hts hown hG hR gFx_X14_145_11 shM.1 ((shM.2 43 _ rfl).2) dX14_lays_27 ?_
  refine lv_iload hx hb dX14_lays_30 (lv_at hl 0 rfl) ?_
  refine lv_iconst (v := 2) hx hb dX14_lays_32 li_2 ?_
  obtain ⟨v7, ev7, hf⟩ := lt_some hf
  refine n_iadd hx hb ev7 dX14_lays_33 ?_
  refine lv_iload_n hx hb dX14_lays_34 rfl (lv_at hl 4 rfl) ?_
  obtain ⟨c8, hf⟩ := gd_some hf
  obtain ⟨u9, eu9, hf⟩ := lt_some hf
  refine n_iast (la' := [((o + 44), u9)]) hx hb hG hR hS k_a_node c8 hN_A 0 rfl eu9 rfl dX14_lays_35 (fun H locs hR hS => ?_)
  refine lv_aload_n hx hb dX14_lays_36 rfl (lv_at hl 1 rfl) ?_
  refine g_getr (b := (o + 44)) hx hb hts hown hG hR gFx_X14_145_11 shM.1 ((shM.2 43 _ rfl).2) dX14_lays_37 ?_
  refine lv_iload hx hb dX14_lays_40 (lv_at hl 0 rfl) ?_
  refine lv_iconst (v := 3) hx hb dX14_lays_42 li_3 ?_
  obtain ⟨v10, ev10, hf⟩ := lt_some hf
  refine n_iadd hx hb ev10 dX14_lays_43 ?_
  refine lv_iload hx hb dX14_lays_44 (lv_at hl 5 rfl) ?_
  obtain ⟨c11, hf⟩ := gd_some hf
  obtain ⟨u12, eu12, hf⟩ := lt_some hf
  refine n_iast (la' := [((o + 44), u12)]) hx hb hG hR hS k_a_node c11 hN_A 0 rfl eu12 rfl dX14_lays_46 (fun H locs hR hS => ?_)
  refine lv_aload_n hx hb dX14_lays_47 rfl (lv_at hl 1 rfl) ?_
  refine lv_dup hx hb dX14_lays_48 rfl ?_
  refine n_geti (v := i_nodes) hx hb hts hown hG hR gFi_X14_503_11 shM.1 (ov_get 0 rfl rfl) dX14_lays_49 ?_
  refine lv_iconst (v := 1) hx hb dX14_lays_52 li_1 ?_
  obtain ⟨v13, ev13, hf⟩ := lt_some hf
  refine n_iadd hx hb ev13 dX14_lays_53 ?_
  refine n_puti (li' := [(1187, o, v13)]) hx hb hts hown hG hR hS gPi_X14_503_11 shM.1 0 rfl rfl rfl dX14_lays_54 (fun H locs hR hS => ?_)
  refine lv_aload_n hx hb dX14_lays_57 rfl (lv_at hl 1 rfl) ?_
  refine n_geti (v := v13) hx hb hts hown hG hR gFi_X14_503_11 shM.1 (ov_get 0 rfl rfl) dX14_lays_58 ?_
  refine lv_iconst (v := 1) hx hb dX14_lays_61 li_1 ?_
  obtain ⟨v14, ev14, hf⟩ := lt_some hf
  refine n_isub hx hb ev14 dX14_lays_62 ?_
  obtain rfl := some_i hf
  exact hend _ _ _ _ dX14_lays_63 hR hS
noncomputable def f14_feed (p1 : Int32) (p2 : Int32) (p3 : Int32) (p4 : Int32) (p5 : Int32) (i_thrown : Int32) (i_taped : Int32) (a_tape : Nat → Int32) : Option (Int32 × Int32 × Int32 × (Nat → Int32)) :=
  lt (i_taped + (20 : Int32)) fun v1 =>
  if v1 ≤ (740 : Int32) then
    (f14_come p1 i_taped a_tape).bind fun rr3 =>
    (f14_come p2 rr3.1 rr3.2).bind fun rr4 =>
    (f14_come p3 rr4.1 rr4.2).bind fun rr5 =>
    (f14_come p4 rr5.1 rr5.2).bind fun rr6 =>
    (f14_come p5 rr6.1 rr6.2).bind fun rr7 =>
    some (rr7.1, (0 : Int32), rr7.1, rr7.2)
  else
    some ((-1 : Int32), (0 : Int32), i_taped, a_tape)
set_option maxHeartbeats 4000000 in
theorem m14_feed (l : Launch) (G : gG) (K : gK) (I : gI) (J : gJ) (X : gX) (A : gI) (B : gJ) (Q : gX) (o : Nat) (shM : Sh K X o 11 rows11) (p1 : Int32) (p2 : Int32) (p3 : Int32) (p4 : Int32) (p5 : Int32) (i_thrown : Int32) (i_taped : Int32) (a_tape : Nat → Int32) (e_i_thrown : I 1100 o = i_thrown) (e_i_taped : I 1102 o = i_taped) (e_a_tape : A (o + 1) = a_tape) (out : Int32 × Int32 × Int32 × (Nat → Int32)) (hf : f14_feed p1 p2 p3 p4 p5 i_thrown i_taped a_tape = some out) : GMet l yX14_feed cX14_feed 6 (some .int) (1) (22) G [.ref o, .int p1, .int p2, .int p3, .int p4, .int p5] K I J X A B Q (some (.int out.1)) K (ov I [(1100, o, out.2.1), (1102, o, out.2.2.1)]) J X (ova A [((o + 1), out.2.2.2)]) B Q 0 0 := by
  refine GMet.of (y := yX14_feed) rfl (Nat.le_of_ble_eq_true rfl) rfl ?_
  intro p e s m below meth c ls hx hb hr hml hlocks hts hown hname hG hR hl
  have hown : s.vm.findClass RX14 = some m.cls := hown
  have k_a_tape : K (o + 1) = some (.inr (0, 740)) := (shM.2 0 _ rfl).1
  have hN_A : nda [(o + 1)] := nd_off o [1] rfl
  have hR : RS G K (ov I [(1100, o, i_thrown), (1102, o, i_taped)]) J X (ova A [((o + 1), a_tape)]) B Q s.heap := hR.to (Eq.symm (ov_sc e_i_thrown (ov_sc e_i_taped rfl))) rfl rfl (Eq.symm (ova_sc e_a_tape rfl)) rfl rfl
  have hS : va_S (gA G) s.heap s.heap [] := va_S.rf
  have hend : ∀ (pc : Nat) (H : Heap) (locs : List Loc) (ls : Array Slot), decode cX14_feed pc = .ok (.ireturn, 1) → RS G K (ov I [(1100, o, out.2.1), (1102, o, out.2.2.1)]) J X (ova A [((o + 1), out.2.2.2)]) B Q H → va_S (gA G) s.heap H locs → W p l e ({ frames := 1, cells := 0, slots := 0, locals := 22 } : Room) s m ([.ref o, .int p1, .int p2, .int p3, .int p4, .int p5] : List Value).toArray below meth c H locs 0 0 (MQ below (gQ G (some (.int out.1)) K (ov I [(1100, o, out.2.1), (1102, o, out.2.2.1)]) J X (ova A [((o + 1), out.2.2.2)]) B Q) ([.ref o, .int p1, .int p2, .int p3, .int p4, .int p5] : List Value).toArray s 0 0 (gA G)) (F0 m pc ls [.int out.1]) := fun pc H locs ls hd hR hS => g_iret hx hb hr hlocks hG hR hS rfl hd
  generalize MQ below (gQ G (some (.int out.1)) K (ov I [(1100, o, out.2.1), (1102, o, out.2.2.1)]) J X (ova A [((o + 1), out.2.2.2)]) B Q) ([.ref o, .int p1, .int p2, .int p3, .int p4, .int p5] : List Value).toArray s 0 0 (gA G) = Z at hend ⊢
  generalize ([.ref o, .int p1, .int p2, .int p3, .int p4, .int p5] : List Value).toArray = args at hts hend ⊢
  unfold f14_feed at hf
  refine lv_aload_n hx hb dX14_feed_0 rfl (lv_at hl 0 rfl) ?_
  refine lv_iconst (v := 0) hx hb dX14_feed_1 li_0 ?_
  refine n_puti (li' := [(1100, o, (0 : Int32)), (1102, o, i_taped)]) hx hb hts hown hG hR hS gPi_X14_148_11 shM.1 0 rfl rfl rfl dX14_feed_2 (fun H locs hR hS => ?_)
  refine lv_aload_n hx hb dX14_feed_5 rfl (lv_at hl 0 rfl) ?_
  refine n_geti (v := i_taped) hx hb hts hown hG hR gFi_X14_151_11 shM.1 (ov_get 1 rfl rfl) dX14_feed_6 ?_
  refine lv_bipush (v := 20) hx hb dX14_feed_9 lb_20 ?_
  obtain ⟨v1, ev1, hf⟩ := lt_some hf
  refine n_iadd hx hb ev1 dX14_feed_11 ?_
  refine lv_sipush (v := 740) hx hb dX14_feed_12 ls_740 ?_
  refine lv_icmp_le (tgt := 20) hx hb dX14_feed_15 (by decide) (fun c2 => ?_) (fun c2 => ?_)
  · have hf := ite_t c2 hf
    refine lv_aload_n hx hb dX14_feed_20 rfl (lv_at hl 0 rfl) ?_
    refine lv_iload_n hx hb dX14_feed_21 rfl (lv_at hl 1 rfl) ?_
    obtain ⟨rr3, hrr3, hf⟩ := bind_s hf
    refine g0_cVv (rm := (0, 0)) (As := [.int p1]) (rest := []) ⟨hx, hb, hml, hown, hts⟩ hG hR hS (m14_come l G K (ov I [(1100, o, (0 : Int32)), (1102, o, i_taped)]) J X (ova A [((o + 1), a_tape)]) B Q o shM p1 i_taped a_tape (ov_get 1 rfl rfl) (ova_get 0 hN_A rfl) rr3 hrr3) (cwV 1 hts gi_X14_154 rfl rfl rfl hd_X14_come ⟨Nat.le_of_ble_eq_true rfl, Nat.le_of_ble_eq_true rfl⟩) shM.1 rfl rfl hl.1 (Nat.le_of_ble_eq_true rfl) dX14_feed_22 ⟨Nat.le_refl _, Nat.le_refl _⟩ rfl (fun H locs hR hS => ?_)
    have hR : RS G K (ov I [(1100, o, (0 : Int32)), (1102, o, rr3.1)]) J X (ova A [((o + 1), rr3.2)]) B Q H := hR.to (ov_merge (l := [(1100, o, (0 : Int32)), (1102, o, i_taped)]) rfl [1] [(1102, o, rr3.1)] rfl rfl) rfl rfl (ova_merge (l := [((o + 1), a_tape)]) hN_A [0] [((o + 1), rr3.2)] rfl rfl) rfl rfl
    refine lv_aload_n hx hb dX14_feed_25 rfl (lv_at hl 0 rfl) ?_
    refine lv_iload_n hx hb dX14_feed_26 rfl (lv_at hl 2 rfl) ?_
    obtain ⟨rr4, hrr4, hf⟩ := bind_s hf
    refine g0_cVv (rm := (0, 0)) (As := [.int p2]) (rest := []) ⟨hx, hb, hml, hown, hts⟩ hG hR hS (m14_come l G K (ov I [(1100, o, (0 : Int32)), (1102, o, rr3.1)]) J X (ova A [((o + 1), rr3.2)]) B Q o shM p2 rr3.1 rr3.2 (ov_get 1 rfl rfl) (ova_get 0 hN_A rfl) rr4 hrr4) (cwV 1 hts gi_X14_154 rfl rfl rfl hd_X14_come ⟨Nat.le_of_ble_eq_true rfl, Nat.le_of_ble_eq_true rfl⟩) shM.1 rfl rfl hl.1 (Nat.le_of_ble_eq_true rfl) dX14_feed_27 ⟨Nat.le_refl _, Nat.le_refl _⟩ rfl (fun H locs hR hS => ?_)
    have hR : RS G K (ov I [(1100, o, (0 : Int32)), (1102, o, rr4.1)]) J X (ova A [((o + 1), rr4.2)]) B Q H := hR.to (ov_merge (l := [(1100, o, (0 : Int32)), (1102, o, rr3.1)]) rfl [1] [(1102, o, rr4.1)] rfl rfl) rfl rfl (ova_merge (l := [((o + 1), rr3.2)]) hN_A [0] [((o + 1), rr4.2)] rfl rfl) rfl rfl
    refine lv_aload_n hx hb dX14_feed_30 rfl (lv_at hl 0 rfl) ?_
    refine lv_iload_n hx hb dX14_feed_31 rfl (lv_at hl 3 rfl) ?_
    obtain ⟨rr5, hrr5, hf⟩ := bind_s hf
    refine g0_cVv (rm := (0, 0)) (As := [.int p3]) (rest := []) ⟨hx, hb, hml, hown, hts⟩ hG hR hS (m14_come l G K (ov I [(1100, o, (0 : Int32)), (1102, o, rr4.1)]) J X (ova A [((o + 1), rr4.2)]) B Q o shM p3 rr4.1 rr4.2 (ov_get 1 rfl rfl) (ova_get 0 hN_A rfl) rr5 hrr5) (cwV 1 hts gi_X14_154 rfl rfl rfl hd_X14_come ⟨Nat.le_of_ble_eq_true rfl, Nat.le_of_ble_eq_true rfl⟩) shM.1 rfl rfl hl.1 (Nat.le_of_ble_eq_true rfl) dX14_feed_32 ⟨Nat.le_refl _, Nat.le_refl _⟩ rfl (fun H locs hR hS => ?_)
    have hR : RS G K (ov I [(1100, o, (0 : Int32)), (1102, o, rr5.1)]) J X (ova A [((o + 1), rr5.2)]) B Q H := hR.to (ov_merge (l := [(1100, o, (0 : Int32)), (1102, o, rr4.1)]) rfl [1] [(1102, o, rr5.1)] rfl rfl) rfl rfl (ova_merge (l := [((o + 1), rr4.2)]) hN_A [0] [((o + 1), rr5.2)] rfl rfl) rfl rfl
    refine lv_aload_n hx hb dX14_feed_35 rfl (lv_at hl 0 rfl) ?_
    refine lv_iload hx hb dX14_feed_36 (lv_at hl 4 rfl) ?_
    obtain ⟨rr6, hrr6, hf⟩ := bind_s hf
    refine g0_cVv (rm := (0, 0)) (As := [.int p4]) (rest := []) ⟨hx, hb, hml, hown, hts⟩ hG hR hS (m14_come l G K (ov I [(1100, o, (0 : Int32)), (1102, o, rr5.1)]) J X (ova A [((o + 1), rr5.2)]) B Q o shM p4 rr5.1 rr5.2 (ov_get 1 rfl rfl) (ova_get 0 hN_A rfl) rr6 hrr6) (cwV 1 hts gi_X14_154 rfl rfl rfl hd_X14_come ⟨Nat.le_of_ble_eq_true rfl, Nat.le_of_ble_eq_true rfl⟩) shM.1 rfl rfl hl.1 (Nat.le_of_ble_eq_true rfl) dX14_feed_38 ⟨Nat.le_refl _, Nat.le_refl _⟩ rfl (fun H locs hR hS => ?_)
    have hR : RS G K (ov I [(1100, o, (0 : Int32)), (1102, o, rr6.1)]) J X (ova A [((o + 1), rr6.2)]) B Q H := hR.to (ov_merge (l := [(1100, o, (0 : Int32)), (1102, o, rr5.1)]) rfl [1] [(1102, o, rr6.1)] rfl rfl) rfl rfl (ova_merge (l := [((o + 1), rr5.2)]) hN_A [0] [((o + 1), rr6.2)] rfl rfl) rfl rfl
    refine lv_aload_n hx hb dX14_feed_41 rfl (lv_at hl 0 rfl) ?_
    refine lv_iload hx hb dX14_feed_42 (lv_at hl 5 rfl) ?_
    obtain ⟨rr7, hrr7, hf⟩ := bind_s hf
    refine g0_cVv (rm := (0, 0)) (As := [.int p5]) (rest := []) ⟨hx, hb, hml, hown, hts⟩ hG hR hS (m14_come l G K (ov I [(1100, o, (0 : Int32)), (1102, o, rr6.1)]) J X (ova A [((o + 1), rr6.2)]) B Q o shM p5 rr6.1 rr6.2 (ov_get 1 rfl rfl) (ova_get 0 hN_A rfl) rr7 hrr7) (cwV 1 hts gi_X14_154 rfl rfl rfl hd_X14_come ⟨Nat.le_of_ble_eq_true rfl, Nat.le_of_ble_eq_true rfl⟩) shM.1 rfl rfl hl.1 (Nat.le_of_ble_eq_true rfl) dX14_feed_44 ⟨Nat.le_refl _, Nat.le_refl _⟩ rfl (fun H locs hR hS => ?_)
    have hR : RS G K (ov I [(1100, o, (0 : Int32)), (1102, o, rr7.1)]) J X (ova A [((o + 1), rr7.2)]) B Q H := hR.to (ov_merge (l := [(1100, o, (0 : Int32)), (1102, o, rr6.1)]) rfl [1] [(1102, o, rr7.1)] rfl rfl) rfl rfl (ova_merge (l := [((o + 1), rr6.2)]) hN_A [0] [((o + 1), rr7.2)] rfl rfl) rfl rfl
    refine lv_aload_n hx hb dX14_feed_47 rfl (lv_at hl 0 rfl) ?_
    refine n_geti (v := rr7.1) hx hb hts hown hG hR gFi_X14_151_11 shM.1 (ov_get 1 rfl rfl) dX14_feed_48 ?_
    obtain rfl := some_i hf
    exact hend _ _ _ _ dX14_feed_51 hR hS
  · have hf := ite_f c2 hf
    refine lv_iconst (v := -1) hx hb dX14_feed_18 li_m1 ?_
    obtain rfl := some_i hf
    exact hend _ _ _ _ dX14_feed_19 hR hS
noncomputable def f14_lay (i_isBegun : Int32) (a_now : Nat → Int32) : Option (Int32 × (Nat → Int32)) :=
  if i_isBegun = 0 then
    (f14_standard 800 a_now).bind fun rr2 =>
    some ((1 : Int32), rr2)
  else
    some (i_isBegun, a_now)
set_option maxHeartbeats 4000000 in
theorem m14_lay (l : Launch) (G : gG) (K : gK) (I : gI) (J : gJ) (X : gX) (A : gI) (B : gJ) (Q : gX) (o : Nat) (shM : Sh K X o 11 rows11)  (i_isBegun : Int32) (a_now : Nat → Int32) (e_i_isBegun : I 1122 o = i_isBegun) (e_a_now : A (o + 2) = a_now) (out : Int32 × (Nat → Int32)) (hf : f14_lay i_isBegun a_now = some out) : GMet l yX14_lay cX14_lay 1 none (1) (21) G [.ref o] K I J X A B Q none K (ov I [(1122, o, out.1)]) J X (ova A [((o + 2), out.2)]) B Q 0 0 := by
  refine GMet.of (y := yX14_lay) rfl (Nat.le_of_ble_eq_true rfl) rfl ?_
  intro p e s m below meth c ls hx hb hr hml hlocks hts hown hname hG hR hl
  have hown : s.vm.findClass RX14 = some m.cls := hown
  have k_a_now : K (o + 2) = some (.inr (0, 800)) := (shM.2 1 _ rfl).1
  have hN_A : nda [(o + 2)] := nd_off o [2] rfl
  have hR : RS G K (ov I [(1122, o, i_isBegun)]) J X (ova A [((o + 2), a_now)]) B Q s.heap := hR.to (Eq.symm (ov_sc e_i_isBegun rfl)) rfl rfl (Eq.symm (ova_sc e_a_now rfl)) rfl rfl
  have hS : va_S (gA G) s.heap s.heap [] := va_S.rf
  have hend : ∀ (pc : Nat) (H : Heap) (locs : List Loc) (ls : Array Slot), decode cX14_lay pc = .ok (.return_, 1) → RS G K (ov I [(1122, o, out.1)]) J X (ova A [((o + 2), out.2)]) B Q H → va_S (gA G) s.heap H locs → W p l e ({ frames := 1, cells := 0, slots := 0, locals := 21 } : Room) s m ([.ref o] : List Value).toArray below meth c H locs 0 0 (MQ below (gQ G none K (ov I [(1122, o, out.1)]) J X (ova A [((o + 2), out.2)]) B Q) ([.ref o] : List Value).toArray s 0 0 (gA G)) (F0 m pc ls []) := fun pc H locs ls hd hR hS => g_vret hx hb hr hlocks hG hR hS rfl hd
  generalize MQ below (gQ G none K (ov I [(1122, o, out.1)]) J X (ova A [((o + 2), out.2)]) B Q) ([.ref o] : List Value).toArray s 0 0 (gA G) = Z at hend ⊢
  generalize ([.ref o] : List Value).toArray = args at hts hend ⊢
  unfold f14_lay at hf
  refine lv_aload_n hx hb dX14_lay_0 rfl (lv_at hl 0 rfl) ?_
  refine n_geti (v := i_isBegun) hx hb hts hown hG hR gFi_X14_239_11 shM.1 (ov_get 0 rfl rfl) dX14_lay_1 ?_
  refine lv_if_eq (tgt := 8) hx hb dX14_lay_4 (by decide) (fun c1 => ?_) (fun c1 => ?_)
  · have hf := ite_t c1 hf
    refine lv_aload_n hx hb dX14_lay_8 rfl (lv_at hl 0 rfl) ?_
    refine lv_iconst (v := 1) hx hb dX14_lay_9 li_1 ?_
    refine n_putz (li' := [(1122, o, (1 : Int32))]) hx hb hts hown hG hR hS gPz_X14_239_11 shM.1 nz_1 0 rfl rfl rfl dX14_lay_10 (fun H locs hR hS => ?_)
    refine lv_aload_n hx hb dX14_lay_13 rfl (lv_at hl 0 rfl) ?_
    refine g_getr (b := (o + 2)) hx hb hts hown hG hR gFx_X14_13_11 shM.1 ((shM.2 1 _ rfl).2) dX14_lay_14 ?_
    obtain ⟨rr2, hrr2, hf⟩ := bind_s hf
    refine g0_cSv (rm := (0, 0)) (As := [.ref (o + 2)]) (rest := []) ⟨hx, hb, hml, hown, hts⟩ hG hR hS (m14_standard l G K (ov I [(1122, o, (1 : Int32))]) J X (ova A [((o + 2), a_now)]) B Q (o + 2) 800 k_a_now a_now (ova_get 0 hN_A rfl) rr2 hrr2) (cwS 1 hts gi_X14_243 rfl rfl rfl hd_X14_standard ⟨Nat.le_of_ble_eq_true rfl, Nat.le_of_ble_eq_true rfl⟩) rfl hl.1 (Nat.le_of_ble_eq_true rfl) dX14_lay_17 ⟨Nat.le_refl _, Nat.le_refl _⟩ rfl (fun H locs hR hS => ?_)
    have hR : RS G K (ov I [(1122, o, (1 : Int32))]) J X (ova A [((o + 2), rr2)]) B Q H := hR.to rfl rfl rfl (ova_merge (l := [((o + 2), a_now)]) hN_A [0] [((o + 2), rr2)] rfl rfl) rfl rfl
    obtain rfl := some_i hf
    exact hend _ _ _ _ dX14_lay_20 hR hS
  · have hf := ite_f c1 hf
    obtain rfl := some_i hf
    exact hend _ _ _ _ dX14_lay_7 hR hS
noncomputable def f14_go_j379 (j96_i_from : Int32) (j198_i_sign : Int32) (x7_0 : Int32 × Int32 × Int32 × Int64) (j379_i_kind : Int32) : Option (Int32 × Int32 × Int32 × Int32 × Int32 × Int64) :=
  some (x7_0.2.1, j96_i_from, (1 : Int32), x7_0.2.2.1, j198_i_sign, x7_0.2.2.2)

noncomputable def f14_go_j376 (j96_i_from : Int32) (j198_i_kind : Int32) (j198_i_sign : Int32) (rr6 : Int32) (x7_0 : Int32 × Int32 × Int32 × Int64) (v9 : Int32) (j376_s0 : Int32) : Option (Int32 × Int32 × Int32 × Int32 × Int32 × Int64) :=
  if v9 ≤ j376_s0 then
    if rr6 = 0 then
      some (x7_0.2.1, j96_i_from, (3 : Int32), x7_0.2.2.1, j198_i_sign, x7_0.2.2.2)
    else
      some (x7_0.2.1, j96_i_from, (2 : Int32), x7_0.2.2.1, j198_i_sign, x7_0.2.2.2)
  else
    f14_go_j379 j96_i_from j198_i_sign x7_0 j198_i_kind

noncomputable def f14_go_e7_0 (j96_i_from : Int32) (j198_i_kind : Int32) (j198_i_sign : Int32) (rr6 : Int32) (x7_0 : Int32 × Int32 × Int32 × Int64) : Option (Int32 × Int32 × Int32 × Int32 × Int32 × Int64) :=
  if x7_0.1 = 0 then
    f14_go_j379 j96_i_from j198_i_sign x7_0 j198_i_kind
  else
    lt (x7_0.2.1 - j96_i_from) fun v9 =>
    if rr6 = 0 then
      f14_go_j376 j96_i_from j198_i_kind j198_i_sign rr6 x7_0 v9 (8 : Int32)
    else
      f14_go_j376 j96_i_from j198_i_kind j198_i_sign rr6 x7_0 v9 (6 : Int32)

noncomputable def f14_go_j338 (w7_i_to : Int32) (j272_s0 : Int32) (j307_j_word : Int64) (j338_i_number : Int32) : Option ((Int32 × Int32 × Int32 × Int64) ⊕ (Int32 × Int32 × Int32 × Int64)) :=
  lt (w7_i_to + (1 : Int32)) fun v19 =>
  some (.inl (j272_s0, v19, j338_i_number, j307_j_word))

noncomputable def f14_go_j307 (j96_i_from : Int32) (w7_i_to : Int32) (w7_i_number : Int32) (v16 : Int32) (j272_s0 : Int32) (j307_j_word : Int64) : Option ((Int32 × Int32 × Int32 × Int64) ⊕ (Int32 × Int32 × Int32 × Int64)) :=
  lt (w7_i_to - j96_i_from) fun v18 =>
  if (8 : Int32) ≤ v18 then
    f14_go_j338 w7_i_to j272_s0 j307_j_word w7_i_number
  else
    lt ((10 : Int32) * w7_i_number) fun v21 =>
    lt (v21 + v16) fun v22 =>
    lt (v22 - (48 : Int32)) fun v23 =>
    f14_go_j338 w7_i_to j272_s0 j307_j_word v23

noncomputable def f14_go_j272 (j96_i_from : Int32) (w7_i_to : Int32) (w7_i_number : Int32) (w7_j_word : Int64) (v16 : Int32) (j272_s0 : Int32) : Option ((Int32 × Int32 × Int32 × Int64) ⊕ (Int32 × Int32 × Int32 × Int64)) :=
  lt (w7_i_to - j96_i_from) fun v17 =>
  if (6 : Int32) ≤ v17 then
    f14_go_j307 j96_i_from w7_i_to w7_i_number v16 j272_s0 w7_j_word
  else
    lt ((27 : Int64) * w7_j_word) fun v25 =>
    lt (v16.toInt64) fun v26 =>
    lt (v25 + v26) fun v27 =>
    lt (v27 - (96 : Int64)) fun v28 =>
    f14_go_j307 j96_i_from w7_i_to w7_i_number v16 j272_s0 v28

noncomputable def f14_go_j271 (j96_i_from : Int32) (w7_i_to : Int32) (w7_i_number : Int32) (w7_j_word : Int64) (v16 : Int32) : Option ((Int32 × Int32 × Int32 × Int64) ⊕ (Int32 × Int32 × Int32 × Int64)) :=
  f14_go_j272 j96_i_from w7_i_to w7_i_number w7_j_word v16 (0 : Int32)

noncomputable def f14_go_j243 (a_tape : Nat → Int32) (j96_i_from : Int32) (rr6 : Int32) (w7_3 : Int32) (w7_i_to : Int32) (w7_i_number : Int32) (w7_j_word : Int64) : Option ((Int32 × Int32 × Int32 × Int64) ⊕ (Int32 × Int32 × Int32 × Int64)) :=
  gd (inb w7_i_to 740) <|
  lt (a_tape w7_i_to.toNatClampNeg) fun v16 =>
  if w7_3 = 0 then
    f14_go_j271 j96_i_from w7_i_to w7_i_number w7_j_word v16
  else
    (f14_isLetter v16).bind fun rr30 =>
    if rr30 = rr6 then
      f14_go_j272 j96_i_from w7_i_to w7_i_number w7_j_word v16 (1 : Int32)
    else
      f14_go_j271 j96_i_from w7_i_to w7_i_number w7_j_word v16

noncomputable def f14_go_s7 (i_size : Int32) (a_tape : Nat → Int32) (j96_i_from : Int32) (rr6 : Int32) (w7_3 : Int32) (w7_i_to : Int32) (w7_i_number : Int32) (w7_j_word : Int64) : Option ((Int32 × Int32 × Int32 × Int64) ⊕ (Int32 × Int32 × Int32 × Int64)) :=
  (f14_byteAt w7_i_to i_size a_tape).bind fun rr13 =>
  (f14_isLetter rr13).bind fun rr14 =>
  if rr14 = 0 then
    (f14_byteAt w7_i_to i_size a_tape).bind fun rr33 =>
    (f14_isDigit rr33).bind fun rr34 =>
    if rr34 = 0 then
      some (.inr (w7_3, w7_i_to, w7_i_number, w7_j_word))
    else
      f14_go_j243 a_tape j96_i_from rr6 w7_3 w7_i_to w7_i_number w7_j_word
  else
    f14_go_j243 a_tape j96_i_from rr6 w7_3 w7_i_to w7_i_number w7_j_word

noncomputable def f14_go_j198 (i_size : Int32) (a_tape : Nat → Int32) (j96_i_from : Int32) (v4 : Int32) (j198_i_to : Int32) (j198_i_kind : Int32) (j198_i_sign : Int32) : Option (Int32 × Int32 × Int32 × Int32 × Int32 × Int64) :=
  (f14_isLetter v4).bind fun rr6 =>
  (whl (fun (s7 : Int32 × Int32 × Int32 × Int64) => f14_go_s7 i_size a_tape j96_i_from rr6 s7.1 s7.2.1 s7.2.2.1 s7.2.2.2) FU ((1 : Int32), j198_i_to, (0 : Int32), (0 : Int64))).bind fun rl7 =>
  f14_go_e7_0 j96_i_from j198_i_kind j198_i_sign rr6 rl7

noncomputable def f14_go_j179 (i_number : Int32) (j_word : Int64) (x1_0 : Int32) (j96_i_from : Int32) (v4 : Int32) (j179_s0 : Int32) : Option (Int32 × Int32 × Int32 × Int32 × Int32 × Int64) :=
  lt (x1_0 + (1 : Int32)) fun v39 =>
  some (v39, j96_i_from, j179_s0, i_number, v4, j_word)

noncomputable def f14_go_j174 (i_number : Int32) (j_word : Int64) (x1_0 : Int32) (j96_i_from : Int32) (v4 : Int32) : Option (Int32 × Int32 × Int32 × Int32 × Int32 × Int64) :=
  f14_go_j179 i_number j_word x1_0 j96_i_from v4 (4 : Int32)

noncomputable def f14_go_j96 (i_size : Int32) (i_number : Int32) (i_sign : Int32) (j_word : Int64) (a_tape : Nat → Int32) (x1_0 : Int32) (j96_i_from : Int32) (j96_i_kind : Int32) : Option (Int32 × Int32 × Int32 × Int32 × Int32 × Int64) :=
  if x1_0 < i_size then
    gd (inb x1_0 740) <|
    lt (a_tape x1_0.toNatClampNeg) fun v4 =>
    (f14_isLetter v4).bind fun rr5 =>
    if rr5 = 0 then
      (f14_isDigit v4).bind fun rr37 =>
      if rr37 = 0 then
        if v4 = (59 : Int32) then
          f14_go_j174 i_number j_word x1_0 j96_i_from v4
        else
          if v4 = (60 : Int32) then
            f14_go_j174 i_number j_word x1_0 j96_i_from v4
          else
            if v4 = (61 : Int32) then
              f14_go_j174 i_number j_word x1_0 j96_i_from v4
            else
              if v4 = (62 : Int32) then
                f14_go_j174 i_number j_word x1_0 j96_i_from v4
              else
                if v4 = (40 : Int32) then
                  f14_go_j174 i_number j_word x1_0 j96_i_from v4
                else
                  if v4 = (41 : Int32) then
                    f14_go_j174 i_number j_word x1_0 j96_i_from v4
                  else
                    f14_go_j179 i_number j_word x1_0 j96_i_from v4 (1 : Int32)
      else
        f14_go_j198 i_size a_tape j96_i_from v4 x1_0 j96_i_kind i_sign
    else
      f14_go_j198 i_size a_tape j96_i_from v4 x1_0 j96_i_kind i_sign
  else
    some (x1_0, j96_i_from, (0 : Int32), i_number, i_sign, j_word)

noncomputable def f14_go_e1_0 (i_size : Int32) (i_limit : Int32) (i_kind : Int32) (i_number : Int32) (i_sign : Int32) (j_word : Int64) (a_tape : Nat → Int32) (x1_0 : Int32) : Option (Int32 × Int32 × Int32 × Int32 × Int32 × Int64) :=
  if i_size ≤ i_limit then
    f14_go_j96 i_size i_number i_sign j_word a_tape x1_0 x1_0 i_kind
  else
    if x1_0 < i_limit then
      f14_go_j96 i_size i_number i_sign j_word a_tape x1_0 x1_0 i_kind
    else
      some (x1_0, i_limit, (1 : Int32), i_number, i_sign, j_word)

noncomputable def f14_go_j39 (w1_i_to : Int32) : Option ((Int32) ⊕ (Int32)) :=
  lt (w1_i_to + (1 : Int32)) fun v51 =>
  some (.inl v51)

noncomputable def f14_go_s1 (i_size : Int32) (a_tape : Nat → Int32) (w1_i_to : Int32) : Option ((Int32) ⊕ (Int32)) :=
  if i_size ≤ w1_i_to then
    some (.inr w1_i_to)
  else
    gd (inb w1_i_to 740) <|
    lt (a_tape w1_i_to.toNatClampNeg) fun v50 =>
    if v50 = (32 : Int32) then
      f14_go_j39 w1_i_to
    else
      gd (inb w1_i_to 740) <|
      lt (a_tape w1_i_to.toNatClampNeg) fun v54 =>
      if v54 = (10 : Int32) then
        f14_go_j39 w1_i_to
      else
        some (.inr w1_i_to)

noncomputable def f14_go (i_size : Int32) (i_limit : Int32) (i_to : Int32) (i_from : Int32) (i_kind : Int32) (i_number : Int32) (i_sign : Int32) (j_word : Int64) (a_tape : Nat → Int32) : Option (Int32 × Int32 × Int32 × Int32 × Int32 × Int64) :=
  (whl (fun (s1 : Int32) => f14_go_s1 i_size a_tape s1) FU i_to).bind fun rl1 =>
  f14_go_e1_0 i_size i_limit i_kind i_number i_sign j_word a_tape rl1
set_option maxHeartbeats 4000000 in
theorem m14_go (l : Launch) (G : gG) (K : gK) (I : gI) (J : gJ) (X : gX) (A : gI) (B : gJ) (Q : gX) (o : Nat) (shM : Sh K X o 11 rows11)  (i_size : Int32) (i_limit : Int32) (i_to : Int32) (i_from : Int32) (i_kind : Int32) (i_number : Int32) (i_sign : Int32) (j_word : Int64) (a_tape : Nat → Int32) (e_i_size : I 1103 o = i_size) (e_i_limit : I 1104 o = i_limit) (e_i_to : I 1105 o = i_to) (e_i_from : I 1106 o = i_from) (e_i_kind : I 1107 o = i_kind) (e_i_number : I 1108 o = i_number) (e_i_sign : I 1109 o = i_sign) (e_j_word : J 1112 o = j_word) (e_a_tape : A (o + 1) = a_tape) (out : Int32 × Int32 × Int32 × Int32 × Int32 × Int64) (hf : f14_go i_size i_limit i_to i_from i_kind i_number i_sign j_word a_tape = some out) : GMet l yX14_go cX14_go 5 none (1) (21) G [.ref o] K I J X A B Q none K (ov I [(1105, o, out.1), (1106, o, out.2.1), (1107, o, out.2.2.1), (1108, o, out.2.2.2.1), (1109, o, out.2.2.2.2.1)]) (ov J [(1112, o, out.2.2.2.2.2)]) X A B Q 0 0 := by
  refine GMet.of (y := yX14_go) rfl (Nat.le_of_ble_eq_true rfl) rfl ?_
  intro p e s m below meth c ls hx hb hr hml hlocks hts hown hname hG hR hl
  have hown : s.vm.findClass RX14 = some m.cls := hown
  have k_a_tape : K (o + 1) = some (.inr (0, 740)) := (shM.2 0 _ rfl).1
  have hR : RS G K (ov I [(1105, o, i_to), (1106, o, i_from), (1107, o, i_kind), (1108, o, i_number), (1109, o, i_sign)]) (ov J [(1112, o, j_word)]) X A B Q s.heap := hR.to (Eq.symm (ov_sc e_i_to (ov_sc e_i_from (ov_sc e_i_kind (ov_sc e_i_number (ov_sc e_i_sign rfl)))))) (Eq.symm (ov_sc e_j_word rfl)) rfl rfl rfl rfl
  have hS : va_S (gA G) s.heap s.heap [] := va_S.rf
  have hend : ∀ (pc : Nat) (H : Heap) (locs : List Loc) (ls : Array Slot), decode cX14_go pc = .ok (.return_, 1) → RS G K (ov I [(1105, o, out.1), (1106, o, out.2.1), (1107, o, out.2.2.1), (1108, o, out.2.2.2.1), (1109, o, out.2.2.2.2.1)]) (ov J [(1112, o, out.2.2.2.2.2)]) X A B Q H → va_S (gA G) s.heap H locs → W p l e ({ frames := 1, cells := 0, slots := 0, locals := 21 } : Room) s m ([.ref o] : List Value).toArray below meth c H locs 0 0 (MQ below (gQ G none K (ov I [(1105, o, out.1), (1106, o, out.2.1), (1107, o, out.2.2.1), (1108, o, out.2.2.2.1), (1109, o, out.2.2.2.2.1)]) (ov J [(1112, o, out.2.2.2.2.2)]) X A B Q) ([.ref o] : List Value).toArray s 0 0 (gA G)) (F0 m pc ls []) := fun pc H locs ls hd hR hS => g_vret hx hb hr hlocks hG hR hS rfl hd
  generalize MQ below (gQ G none K (ov I [(1105, o, out.1), (1106, o, out.2.1), (1107, o, out.2.2.1), (1108, o, out.2.2.2.1), (1109, o, out.2.2.2.2.1)]) (ov J [(1112, o, out.2.2.2.2.2)]) X A B Q) ([.ref o] : List Value).toArray s 0 0 (gA G) = Z at hend ⊢
  generalize ([.ref o] : List Value).toArray = args at hts hend ⊢
  unfold f14_go at hf
  obtain ⟨rl1, hw1, hfo1⟩ := bind_s hf
  have hx1_0 : ∀ (x1_0 : Int32), f14_go_e1_0 i_size i_limit i_kind i_number i_sign j_word a_tape x1_0 = some out → ∀ (H : Heap) (locs : List Loc) (ls : Array Slot), RS G K (ov I [(1105, o, x1_0), (1106, o, i_from), (1107, o, i_kind), (1108, o, i_number), (1109, o, i_sign)]) (ov J [(1112, o, j_word)]) X A B Q H → va_S (gA G) s.heap H locs → lv_has ls 5 [(0, .ref o)] → W p l e ({ frames := 1, cells := 0, slots := 0, locals := 21 } : Room) s m args below meth c H locs 0 0 Z (F0 m 52 ls []) := by
    intro x1_0 hf H locs ls hR hS hl
    unfold f14_go_e1_0 at hf
    refine lv_aload_n hx hb dX14_go_52 rfl (lv_at hl 0 rfl) ?_
    refine lv_aload_n hx hb dX14_go_53 rfl (lv_at hl 0 rfl) ?_
    refine n_geti (v := x1_0) hx hb hts hown hG hR gFi_X14_161_11 shM.1 (ov_get 0 rfl rfl) dX14_go_54 ?_
    refine n_puti (li' := [(1105, o, x1_0), (1106, o, x1_0), (1107, o, i_kind), (1108, o, i_number), (1109, o, i_sign)]) hx hb hts hown hG hR hS gPi_X14_164_11 shM.1 1 rfl rfl rfl dX14_go_57 (fun H locs hR hS => ?_)
    refine lv_aload_n hx hb dX14_go_60 rfl (lv_at hl 0 rfl) ?_
    refine n_geti (v := i_size) hx hb hts hown hG hR gFi_X14_158_11 shM.1 ((congrFun (ov_no rfl) _).trans e_i_size) dX14_go_61 ?_
    refine lv_aload_n hx hb dX14_go_64 rfl (lv_at hl 0 rfl) ?_
    refine n_geti (v := i_limit) hx hb hts hown hG hR gFi_X14_167_11 shM.1 ((congrFun (ov_no rfl) _).trans e_i_limit) dX14_go_65 ?_
    have hj96 : ∀ (j96_i_from : Int32) (j96_i_kind : Int32), f14_go_j96 i_size i_number i_sign j_word a_tape x1_0 j96_i_from j96_i_kind = some out → ∀ (H : Heap) (locs : List Loc) (ls : Array Slot), RS G K (ov I [(1105, o, x1_0), (1106, o, j96_i_from), (1107, o, j96_i_kind), (1108, o, i_number), (1109, o, i_sign)]) (ov J [(1112, o, j_word)]) X A B Q H → va_S (gA G) s.heap H locs → lv_has ls 5 [(0, .ref o)] → W p l e ({ frames := 1, cells := 0, slots := 0, locals := 21 } : Room) s m args below meth c H locs 0 0 Z (F0 m 96 ls []) := by
      intro j96_i_from j96_i_kind hf H locs ls hR hS hl
      unfold f14_go_j96 at hf
      refine lv_aload_n hx hb dX14_go_96 rfl (lv_at hl 0 rfl) ?_
      refine n_geti (v := x1_0) hx hb hts hown hG hR gFi_X14_161_11 shM.1 (ov_get 0 rfl rfl) dX14_go_97 ?_
      refine lv_aload_n hx hb dX14_go_100 rfl (lv_at hl 0 rfl) ?_
      refine n_geti (v := i_size) hx hb hts hown hG hR gFi_X14_158_11 shM.1 ((congrFun (ov_no rfl) _).trans e_i_size) dX14_go_101 ?_
      refine lv_icmp_lt (tgt := 113) hx hb dX14_go_104 (by decide) (fun c2 => ?_) (fun c2 => ?_)
      · have hf := ite_t c2 hf
        refine lv_aload_n hx hb dX14_go_113 rfl (lv_at hl 0 rfl) ?_
        refine g_getr (b := (o + 1)) hx hb hts hown hG hR gFx_X14_7_11 shM.1 ((shM.2 0 _ rfl).2) dX14_go_114 ?_
        refine lv_aload_n hx hb dX14_go_117 rfl (lv_at hl 0 rfl) ?_
        refine n_geti (v := x1_0) hx hb hts hown hG hR gFi_X14_161_11 shM.1 (ov_get 0 rfl rfl) dX14_go_118 ?_
        obtain ⟨c3, hf⟩ := gd_some hf
        obtain ⟨v4, ev4, hf⟩ := lt_some hf
        refine n_iald (x := a_tape) hx hb hG hR k_a_tape c3 e_a_tape ev4 dX14_go_121 ?_
        refine lv_istore_n (lv' := [(1, .int v4), (0, .ref o)]) hx hb dX14_go_122 rfl hl (by decide) rfl (fun ls hl => ?_)
        refine lv_iload_n hx hb dX14_go_123 rfl (lv_at hl 0 rfl) ?_
        obtain ⟨rr5, hrr5, hf⟩ := bind_s hf
        refine g0_cS (rm := (0, 0)) (As := [.int v4]) (rest := []) ⟨hx, hb, hml, hown, hts⟩ hG hR hS (m14_isLetter l G K (ov I [(1105, o, x1_0), (1106, o, j96_i_from), (1107, o, j96_i_kind), (1108, o, i_number), (1109, o, i_sign)]) (ov J [(1112, o, j_word)]) X A B Q v4 rr5 hrr5) (cwS 1 hts gi_X14_173 rfl rfl rfl hd_X14_isLetter ⟨Nat.le_of_ble_eq_true rfl, Nat.le_of_ble_eq_true rfl⟩) rfl hl.1 (Nat.le_of_ble_eq_true rfl) dX14_go_124 ⟨Nat.le_refl _, Nat.le_refl _⟩ rfl (fun H locs hR hS => ?_)
        have hj198 : ∀ (j198_i_to : Int32) (j198_i_kind : Int32) (j198_i_sign : Int32), f14_go_j198 i_size a_tape j96_i_from v4 j198_i_to j198_i_kind j198_i_sign = some out → ∀ (H : Heap) (locs : List Loc) (ls : Array Slot), RS G K (ov I [(1105, o, j198_i_to), (1106, o, j96_i_from), (1107, o, j198_i_kind), (1108, o, i_number), (1109, o, j198_i_sign)]) (ov J [(1112, o, j_word)]) X A B Q H → va_S (gA G) s.heap H locs → lv_has ls 5 [(0, .ref o), (1, .int v4)] → W p l e ({ frames := 1, cells := 0, slots := 0, locals := 21 } : Room) s m args below meth c H locs 0 0 Z (F0 m 198 ls []) := by
          intro j198_i_to j198_i_kind j198_i_sign hf H locs ls hR hS hl
          unfold f14_go_j198 at hf
          refine lv_iload_n hx hb dX14_go_198 rfl (lv_at hl 1 rfl) ?_
          obtain ⟨rr6, hrr6, hf⟩ := bind_s hf
          refine g0_cS (rm := (0, 0)) (As := [.int v4]) (rest := []) ⟨hx, hb, hml, hown, hts⟩ hG hR hS (m14_isLetter l G K (ov I [(1105, o, j198_i_to), (1106, o, j96_i_from), (1107, o, j198_i_kind), (1108, o, i_number), (1109, o, j198_i_sign)]) (ov J [(1112, o, j_word)]) X A B Q v4 rr6 hrr6) (cwS 1 hts gi_X14_173 rfl rfl rfl hd_X14_isLetter ⟨Nat.le_of_ble_eq_true rfl, Nat.le_of_ble_eq_true rfl⟩) rfl hl.1 (Nat.le_of_ble_eq_true rfl) dX14_go_199 ⟨Nat.le_refl _, Nat.le_refl _⟩ rfl (fun H locs hR hS => ?_)
          refine lv_istore_n (lv' := [(2, .int rr6), (0, .ref o), (1, .int v4)]) hx hb dX14_go_202 rfl hl (by decide) rfl (fun ls hl => ?_)
          refine lv_iconst (v := 1) hx hb dX14_go_203 li_1 ?_
          refine lv_istore_n (lv' := [(3, .int (1 : Int32)), (2, .int rr6), (0, .ref o), (1, .int v4)]) hx hb dX14_go_204 rfl hl (by decide) rfl (fun ls hl => ?_)
          refine lv_aload_n hx hb dX14_go_205 rfl (lv_at hl 2 rfl) ?_
          refine lv_lconst (v := 0) hx hb dX14_go_206 rfl ?_
          refine n_putj (li' := [(1112, o, (0 : Int64))]) hx hb hts hown hG hR hS gPj_X14_183_11 shM.1 0 rfl rfl rfl dX14_go_207 (fun H locs hR hS => ?_)
          refine lv_aload_n hx hb dX14_go_210 rfl (lv_at hl 2 rfl) ?_
          refine lv_iconst (v := 0) hx hb dX14_go_211 li_0 ?_
          refine n_puti (li' := [(1105, o, j198_i_to), (1106, o, j96_i_from), (1107, o, j198_i_kind), (1108, o, (0 : Int32)), (1109, o, j198_i_sign)]) hx hb hts hown hG hR hS gPi_X14_187_11 shM.1 3 rfl rfl rfl dX14_go_212 (fun H locs hR hS => ?_)
          obtain ⟨rl7, hw7, hfo7⟩ := bind_s hf
          have hx7_0 : ∀ (x7_0 : Int32 × Int32 × Int32 × Int64), f14_go_e7_0 j96_i_from j198_i_kind j198_i_sign rr6 x7_0 = some out → ∀ (H : Heap) (locs : List Loc) (ls : Array Slot), RS G K (ov I [(1105, o, x7_0.2.1), (1106, o, j96_i_from), (1107, o, j198_i_kind), (1108, o, x7_0.2.2.1), (1109, o, j198_i_sign)]) (ov J [(1112, o, x7_0.2.2.2)]) X A B Q H → va_S (gA G) s.heap H locs → lv_has ls 5 [(0, .ref o), (2, .int rr6), (3, .int x7_0.1)] → W p l e ({ frames := 1, cells := 0, slots := 0, locals := 21 } : Room) s m args below meth c H locs 0 0 Z (F0 m 351 ls []) := by
            intro x7_0 hf H locs ls hR hS hl
            unfold f14_go_e7_0 at hf
            refine lv_aload_n hx hb dX14_go_351 rfl (lv_at hl 0 rfl) ?_
            refine lv_iload_n hx hb dX14_go_352 rfl (lv_at hl 2 rfl) ?_
            have hj379 : ∀ (j379_i_kind : Int32), f14_go_j379 j96_i_from j198_i_sign x7_0 j379_i_kind = some out → ∀ (H : Heap) (locs : List Loc) (ls : Array Slot), RS G K (ov I [(1105, o, x7_0.2.1), (1106, o, j96_i_from), (1107, o, j379_i_kind), (1108, o, x7_0.2.2.1), (1109, o, j198_i_sign)]) (ov J [(1112, o, x7_0.2.2.2)]) X A B Q H → va_S (gA G) s.heap H locs → lv_has ls 5 [(0, .ref o)] → W p l e ({ frames := 1, cells := 0, slots := 0, locals := 21 } : Room) s m args below meth c H locs 0 0 Z (F0 m 379 ls [.ref o]) := by
              intro j379_i_kind hf H locs ls hR hS hl
              unfold f14_go_j379 at hf
              refine lv_iconst (v := 1) hx hb dX14_go_379 li_1 ?_
              refine lv_goto (tgt := 392) hx hb dX14_go_380 (by decide) ?_
              refine n_puti (li' := [(1105, o, x7_0.2.1), (1106, o, j96_i_from), (1107, o, (1 : Int32)), (1108, o, x7_0.2.2.1), (1109, o, j198_i_sign)]) hx hb hts hown hG hR hS gPi_X14_170_11 shM.1 2 rfl rfl rfl dX14_go_392 (fun H locs hR hS => ?_)
              obtain rfl := some_i hf
              exact hend _ _ _ _ dX14_go_395 hR hS
            refine lv_if_eq (tgt := 379) hx hb dX14_go_353 (by decide) (fun c8 => ?_) (fun c8 => ?_)
            · have hf := ite_t c8 hf
              exact hj379 j198_i_kind hf _ _ _ hR hS (lv_sub hl [0] rfl)
            · have hf := ite_f c8 hf
              refine lv_aload_n hx hb dX14_go_356 rfl (lv_at hl 0 rfl) ?_
              refine n_geti (v := x7_0.2.1) hx hb hts hown hG hR gFi_X14_161_11 shM.1 (ov_get 0 rfl rfl) dX14_go_357 ?_
              refine lv_aload_n hx hb dX14_go_360 rfl (lv_at hl 0 rfl) ?_
              refine n_geti (v := j96_i_from) hx hb hts hown hG hR gFi_X14_164_11 shM.1 (ov_get 1 rfl rfl) dX14_go_361 ?_
              obtain ⟨v9, ev9, hf⟩ := lt_some hf
              refine n_isub hx hb ev9 dX14_go_364 ?_
              refine lv_iload_n hx hb dX14_go_365 rfl (lv_at hl 1 rfl) ?_
              have hj376 : ∀ (j376_s0 : Int32), f14_go_j376 j96_i_from j198_i_kind j198_i_sign rr6 x7_0 v9 j376_s0 = some out → ∀ (H : Heap) (locs : List Loc) (ls : Array Slot), RS G K (ov I [(1105, o, x7_0.2.1), (1106, o, j96_i_from), (1107, o, j198_i_kind), (1108, o, x7_0.2.2.1), (1109, o, j198_i_sign)]) (ov J [(1112, o, x7_0.2.2.2)]) X A B Q H → va_S (gA G) s.heap H locs → lv_has ls 5 [(0, .ref o), (2, .int rr6)] → W p l e ({ frames := 1, cells := 0, slots := 0, locals := 21 } : Room) s m args below meth c H locs 0 0 Z (F0 m 376 ls [.int j376_s0, .int v9, .ref o]) := by
                intro j376_s0 hf H locs ls hR hS hl
                unfold f14_go_j376 at hf
                refine lv_icmp_le (tgt := 383) hx hb dX14_go_376 (by decide) (fun c10 => ?_) (fun c10 => ?_)
                · have hf := ite_t c10 hf
                  refine lv_iload_n hx hb dX14_go_383 rfl (lv_at hl 1 rfl) ?_
                  refine lv_if_eq (tgt := 391) hx hb dX14_go_384 (by decide) (fun c11 => ?_) (fun c11 => ?_)
                  · have hf := ite_t c11 hf
                    refine lv_iconst (v := 3) hx hb dX14_go_391 li_3 ?_
                    refine n_puti (li' := [(1105, o, x7_0.2.1), (1106, o, j96_i_from), (1107, o, (3 : Int32)), (1108, o, x7_0.2.2.1), (1109, o, j198_i_sign)]) hx hb hts hown hG hR hS gPi_X14_170_11 shM.1 2 rfl rfl rfl dX14_go_392 (fun H locs hR hS => ?_)
                    obtain rfl := some_i hf
                    exact hend _ _ _ _ dX14_go_395 hR hS
                  · have hf := ite_f c11 hf
                    refine lv_iconst (v := 2) hx hb dX14_go_387 li_2 ?_
                    refine lv_goto (tgt := 392) hx hb dX14_go_388 (by decide) ?_
                    refine n_puti (li' := [(1105, o, x7_0.2.1), (1106, o, j96_i_from), (1107, o, (2 : Int32)), (1108, o, x7_0.2.2.1), (1109, o, j198_i_sign)]) hx hb hts hown hG hR hS gPi_X14_170_11 shM.1 2 rfl rfl rfl dX14_go_392 (fun H locs hR hS => ?_)
                    obtain rfl := some_i hf
                    exact hend _ _ _ _ dX14_go_395 hR hS
                · have hf := ite_f c10 hf
                  exact hj379 j198_i_kind hf _ _ _ hR hS (lv_sub hl [0] rfl)
              refine lv_if_eq (tgt := 374) hx hb dX14_go_366 (by decide) (fun c12 => ?_) (fun c12 => ?_)
              · have hf := ite_t c12 hf
                refine lv_bipush (v := 8) hx hb dX14_go_374 lb_8 ?_
                exact hj376 (8 : Int32) hf _ _ _ hR hS (lv_sub hl [0, 1] rfl)
              · have hf := ite_f c12 hf
                refine lv_bipush (v := 6) hx hb dX14_go_369 lb_6 ?_
                refine lv_goto (tgt := 376) hx hb dX14_go_371 (by decide) ?_
                exact hj376 (6 : Int32) hf _ _ _ hR hS (lv_sub hl [0, 1] rfl)
          refine whl_walk (P := fun (s7 : Int32 × Int32 × Int32 × Int64) => ∀ (H : Heap) (locs : List Loc) (ls : Array Slot), RS G K (ov I [(1105, o, s7.2.1), (1106, o, j96_i_from), (1107, o, j198_i_kind), (1108, o, s7.2.2.1), (1109, o, j198_i_sign)]) (ov J [(1112, o, s7.2.2.2)]) X A B Q H → va_S (gA G) s.heap H locs → lv_has ls 5 [(0, .ref o), (2, .int rr6), (3, .int s7.1)] → W p l e ({ frames := 1, cells := 0, slots := 0, locals := 21 } : Room) s m args below meth c H locs 0 0 Z (F0 m 215 ls [])) (r := rl7) ?_ FU _ hw7 _ _ _ hR hS (lv_sub hl [2, 1, 0] rfl)
          clear hR hS hl hf
          intro s7 o7 hf hk7 H locs ls hR hS hl
          obtain ⟨w7_3, w7_i_to, w7_i_number, w7_j_word⟩ := s7
          have hf : f14_go_s7 i_size a_tape j96_i_from rr6 w7_3 w7_i_to w7_i_number w7_j_word = some o7 := hf
          have hR : RS G K (ov I [(1105, o, w7_i_to), (1106, o, j96_i_from), (1107, o, j198_i_kind), (1108, o, w7_i_number), (1109, o, j198_i_sign)]) (ov J [(1112, o, w7_j_word)]) X A B Q H := hR
          have hl : lv_has ls 5 [(0, .ref o), (2, .int rr6), (3, .int w7_3)] := hl
          unfold f14_go_s7 at hf
          refine lv_aload_n hx hb dX14_go_215 rfl (lv_at hl 0 rfl) ?_
          refine lv_aload_n hx hb dX14_go_216 rfl (lv_at hl 0 rfl) ?_
          refine n_geti (v := w7_i_to) hx hb hts hown hG hR gFi_X14_161_11 shM.1 (ov_get 0 rfl rfl) dX14_go_217 ?_
          obtain ⟨rr13, hrr13, hf⟩ := bind_s hf
          refine g0_cV (rm := (0, 0)) (As := [.int w7_i_to]) (rest := []) ⟨hx, hb, hml, hown, hts⟩ hG hR hS (m14_byteAt l G K (ov I [(1105, o, w7_i_to), (1106, o, j96_i_from), (1107, o, j198_i_kind), (1108, o, w7_i_number), (1109, o, j198_i_sign)]) (ov J [(1112, o, w7_j_word)]) X A B Q o shM w7_i_to i_size a_tape ((congrFun (ov_no rfl) _).trans e_i_size) e_a_tape rr13 hrr13) (cwV 1 hts gi_X14_190 rfl rfl rfl hd_X14_byteAt ⟨Nat.le_of_ble_eq_true rfl, Nat.le_of_ble_eq_true rfl⟩) shM.1 rfl rfl hl.1 (Nat.le_of_ble_eq_true rfl) dX14_go_220 ⟨Nat.le_refl _, Nat.le_refl _⟩ rfl (fun H locs hR hS => ?_)
          obtain ⟨rr14, hrr14, hf⟩ := bind_s hf
          refine g0_cS (rm := (0, 0)) (As := [.int rr13]) (rest := []) ⟨hx, hb, hml, hown, hts⟩ hG hR hS (m14_isLetter l G K (ov I [(1105, o, w7_i_to), (1106, o, j96_i_from), (1107, o, j198_i_kind), (1108, o, w7_i_number), (1109, o, j198_i_sign)]) (ov J [(1112, o, w7_j_word)]) X A B Q rr13 rr14 hrr14) (cwS 1 hts gi_X14_173 rfl rfl rfl hd_X14_isLetter ⟨Nat.le_of_ble_eq_true rfl, Nat.le_of_ble_eq_true rfl⟩) rfl hl.1 (Nat.le_of_ble_eq_true rfl) dX14_go_223 ⟨Nat.le_refl _, Nat.le_refl _⟩ rfl (fun H locs hR hS => ?_)
          have hj243 : ∀ (_ : Unit), f14_go_j243 a_tape j96_i_from rr6 w7_3 w7_i_to w7_i_number w7_j_word = some o7 → ∀ (H : Heap) (locs : List Loc) (ls : Array Slot), RS G K (ov I [(1105, o, w7_i_to), (1106, o, j96_i_from), (1107, o, j198_i_kind), (1108, o, w7_i_number), (1109, o, j198_i_sign)]) (ov J [(1112, o, w7_j_word)]) X A B Q H → va_S (gA G) s.heap H locs → lv_has ls 5 [(0, .ref o), (2, .int rr6), (3, .int w7_3)] → W p l e ({ frames := 1, cells := 0, slots := 0, locals := 21 } : Room) s m args below meth c H locs 0 0 Z (F0 m 243 ls []) := by
            intro _ hf H locs ls hR hS hl
            unfold f14_go_j243 at hf
            refine lv_aload_n hx hb dX14_go_243 rfl (lv_at hl 0 rfl) ?_
            refine g_getr (b := (o + 1)) hx hb hts hown hG hR gFx_X14_7_11 shM.1 ((shM.2 0 _ rfl).2) dX14_go_244 ?_
            refine lv_aload_n hx hb dX14_go_247 rfl (lv_at hl 0 rfl) ?_
            refine n_geti (v := w7_i_to) hx hb hts hown hG hR gFi_X14_161_11 shM.1 (ov_get 0 rfl rfl) dX14_go_248 ?_
            obtain ⟨c15, hf⟩ := gd_some hf
            obtain ⟨v16, ev16, hf⟩ := lt_some hf
            refine n_iald (x := a_tape) hx hb hG hR k_a_tape c15 e_a_tape ev16 dX14_go_251 ?_
            refine lv_istore (lv' := [(4, .int v16), (0, .ref o), (2, .int rr6), (3, .int w7_3)]) hx hb dX14_go_252 hl (by decide) rfl (fun ls hl => ?_)
            refine lv_iload_n hx hb dX14_go_254 rfl (lv_at hl 3 rfl) ?_
            have hj272 : ∀ (j272_s0 : Int32), f14_go_j272 j96_i_from w7_i_to w7_i_number w7_j_word v16 j272_s0 = some o7 → ∀ (H : Heap) (locs : List Loc) (ls : Array Slot), RS G K (ov I [(1105, o, w7_i_to), (1106, o, j96_i_from), (1107, o, j198_i_kind), (1108, o, w7_i_number), (1109, o, j198_i_sign)]) (ov J [(1112, o, w7_j_word)]) X A B Q H → va_S (gA G) s.heap H locs → lv_has ls 5 [(0, .ref o), (2, .int rr6), (4, .int v16)] → W p l e ({ frames := 1, cells := 0, slots := 0, locals := 21 } : Room) s m args below meth c H locs 0 0 Z (F0 m 272 ls [.int j272_s0]) := by
              intro j272_s0 hf H locs ls hR hS hl
              unfold f14_go_j272 at hf
              refine lv_istore_n (lv' := [(3, .int j272_s0), (0, .ref o), (2, .int rr6), (4, .int v16)]) hx hb dX14_go_272 rfl hl (by decide) rfl (fun ls hl => ?_)
              refine lv_aload_n hx hb dX14_go_273 rfl (lv_at hl 1 rfl) ?_
              refine n_geti (v := w7_i_to) hx hb hts hown hG hR gFi_X14_161_11 shM.1 (ov_get 0 rfl rfl) dX14_go_274 ?_
              refine lv_aload_n hx hb dX14_go_277 rfl (lv_at hl 1 rfl) ?_
              refine n_geti (v := j96_i_from) hx hb hts hown hG hR gFi_X14_164_11 shM.1 (ov_get 1 rfl rfl) dX14_go_278 ?_
              obtain ⟨v17, ev17, hf⟩ := lt_some hf
              refine n_isub hx hb ev17 dX14_go_281 ?_
              refine lv_bipush (v := 6) hx hb dX14_go_282 lb_6 ?_
              have hj307 : ∀ (j307_j_word : Int64), f14_go_j307 j96_i_from w7_i_to w7_i_number v16 j272_s0 j307_j_word = some o7 → ∀ (H : Heap) (locs : List Loc) (ls : Array Slot), RS G K (ov I [(1105, o, w7_i_to), (1106, o, j96_i_from), (1107, o, j198_i_kind), (1108, o, w7_i_number), (1109, o, j198_i_sign)]) (ov J [(1112, o, j307_j_word)]) X A B Q H → va_S (gA G) s.heap H locs → lv_has ls 5 [(0, .ref o), (2, .int rr6), (3, .int j272_s0), (4, .int v16)] → W p l e ({ frames := 1, cells := 0, slots := 0, locals := 21 } : Room) s m args below meth c H locs 0 0 Z (F0 m 307 ls []) := by
                intro j307_j_word hf H locs ls hR hS hl
                unfold f14_go_j307 at hf
                refine lv_aload_n hx hb dX14_go_307 rfl (lv_at hl 0 rfl) ?_
                refine n_geti (v := w7_i_to) hx hb hts hown hG hR gFi_X14_161_11 shM.1 (ov_get 0 rfl rfl) dX14_go_308 ?_
                refine lv_aload_n hx hb dX14_go_311 rfl (lv_at hl 0 rfl) ?_
                refine n_geti (v := j96_i_from) hx hb hts hown hG hR gFi_X14_164_11 shM.1 (ov_get 1 rfl rfl) dX14_go_312 ?_
                obtain ⟨v18, ev18, hf⟩ := lt_some hf
                refine n_isub hx hb ev18 dX14_go_315 ?_
                refine lv_bipush (v := 8) hx hb dX14_go_316 lb_8 ?_
                have hj338 : ∀ (j338_i_number : Int32), f14_go_j338 w7_i_to j272_s0 j307_j_word j338_i_number = some o7 → ∀ (H : Heap) (locs : List Loc) (ls : Array Slot), RS G K (ov I [(1105, o, w7_i_to), (1106, o, j96_i_from), (1107, o, j198_i_kind), (1108, o, j338_i_number), (1109, o, j198_i_sign)]) (ov J [(1112, o, j307_j_word)]) X A B Q H → va_S (gA G) s.heap H locs → lv_has ls 5 [(0, .ref o), (2, .int rr6), (3, .int j272_s0)] → W p l e ({ frames := 1, cells := 0, slots := 0, locals := 21 } : Room) s m args below meth c H locs 0 0 Z (F0 m 338 ls []) := by
                  intro j338_i_number hf H locs ls hR hS hl
                  unfold f14_go_j338 at hf
                  refine lv_aload_n hx hb dX14_go_338 rfl (lv_at hl 0 rfl) ?_
                  refine lv_dup hx hb dX14_go_339 rfl ?_
                  refine n_geti (v := w7_i_to) hx hb hts hown hG hR gFi_X14_161_11 shM.1 (ov_get 0 rfl rfl) dX14_go_340 ?_
                  refine lv_iconst (v := 1) hx hb dX14_go_343 li_1 ?_
                  obtain ⟨v19, ev19, hf⟩ := lt_some hf
                  refine n_iadd hx hb ev19 dX14_go_344 ?_
                  refine n_puti (li' := [(1105, o, v19), (1106, o, j96_i_from), (1107, o, j198_i_kind), (1108, o, j338_i_number), (1109, o, j198_i_sign)]) hx hb hts hown hG hR hS gPi_X14_161_11 shM.1 0 rfl rfl rfl dX14_go_345 (fun H locs hR hS => ?_)
                  refine lv_goto (tgt := 215) hx hb dX14_go_348 (by decide) ?_
                  obtain rfl := some_i hf
                  exact hk7 _ _ _ hR hS (lv_sub hl [0, 1, 2] rfl)
                refine lv_icmp_ge (tgt := 338) hx hb dX14_go_318 (by decide) (fun c20 => ?_) (fun c20 => ?_)
                · have hf := ite_t c20 hf
                  exact hj338 w7_i_number hf _ _ _ hR hS (lv_sub hl [0, 1, 2] rfl)
                · have hf := ite_f c20 hf
                  refine lv_aload_n hx hb dX14_go_321 rfl (lv_at hl 0 rfl) ?_
                  refine lv_bipush (v := 10) hx hb dX14_go_322 lb_10 ?_
                  refine lv_aload_n hx hb dX14_go_324 rfl (lv_at hl 0 rfl) ?_
                  refine n_geti (v := w7_i_number) hx hb hts hown hG hR gFi_X14_187_11 shM.1 (ov_get 3 rfl rfl) dX14_go_325 ?_
                  obtain ⟨v21, ev21, hf⟩ := lt_some hf
                  refine n_imul hx hb ev21 dX14_go_328 ?_
                  refine lv_iload hx hb dX14_go_329 (lv_at hl 3 rfl) ?_
                  obtain ⟨v22, ev22, hf⟩ := lt_some hf
                  refine n_iadd hx hb ev22 dX14_go_331 ?_
                  refine lv_bipush (v := 48) hx hb dX14_go_332 lb_48 ?_
                  obtain ⟨v23, ev23, hf⟩ := lt_some hf
                  refine n_isub hx hb ev23 dX14_go_334 ?_
                  refine n_puti (li' := [(1105, o, w7_i_to), (1106, o, j96_i_from), (1107, o, j198_i_kind), (1108, o, v23), (1109, o, j198_i_sign)]) hx hb hts hown hG hR hS gPi_X14_187_11 shM.1 3 rfl rfl rfl dX14_go_335 (fun H locs hR hS => ?_)
                  exact hj338 v23 hf _ _ _ hR hS (lv_sub hl [0, 1, 2] rfl)
              refine lv_icmp_ge (tgt := 307) hx hb dX14_go_284 (by decide) (fun c24 => ?_) (fun c24 => ?_)
              · have hf := ite_t c24 hf
                exact hj307 w7_j_word hf _ _ _ hR hS (lv_sub hl [1, 2, 0, 3] rfl)
              · have hf := ite_f c24 hf
                refine lv_aload_n hx hb dX14_go_287 rfl (lv_at hl 1 rfl) ?_
                refine lv_ldc2 hx hb hown (hts _ q1940) dX14_go_288 ?_
                refine lv_aload_n hx hb dX14_go_291 rfl (lv_at hl 1 rfl) ?_
                refine n_getj (v := w7_j_word) hx hb hts hown hG hR gFj_X14_183_11 shM.1 (ov_get 0 rfl rfl) dX14_go_292 ?_
                obtain ⟨v25, ev25, hf⟩ := lt_some hf
                refine n_lmul hx hb ev25 dX14_go_295 ?_
                refine lv_iload hx hb dX14_go_296 (lv_at hl 3 rfl) ?_
                obtain ⟨v26, ev26, hf⟩ := lt_some hf
                refine n_i2l hx hb ev26 dX14_go_298 ?_
                obtain ⟨v27, ev27, hf⟩ := lt_some hf
                refine n_ladd hx hb ev27 dX14_go_299 ?_
                refine lv_ldc2 hx hb hown (hts _ q1941) dX14_go_300 ?_
                obtain ⟨v28, ev28, hf⟩ := lt_some hf
                refine n_lsub hx hb ev28 dX14_go_303 ?_
                refine n_putj (li' := [(1112, o, v28)]) hx hb hts hown hG hR hS gPj_X14_183_11 shM.1 0 rfl rfl rfl dX14_go_304 (fun H locs hR hS => ?_)
                exact hj307 v28 hf _ _ _ hR hS (lv_sub hl [1, 2, 0, 3] rfl)
            have hj271 : ∀ (_ : Unit), f14_go_j271 j96_i_from w7_i_to w7_i_number w7_j_word v16 = some o7 → ∀ (H : Heap) (locs : List Loc) (ls : Array Slot), RS G K (ov I [(1105, o, w7_i_to), (1106, o, j96_i_from), (1107, o, j198_i_kind), (1108, o, w7_i_number), (1109, o, j198_i_sign)]) (ov J [(1112, o, w7_j_word)]) X A B Q H → va_S (gA G) s.heap H locs → lv_has ls 5 [(0, .ref o), (2, .int rr6), (4, .int v16)] → W p l e ({ frames := 1, cells := 0, slots := 0, locals := 21 } : Room) s m args below meth c H locs 0 0 Z (F0 m 271 ls []) := by
              intro _ hf H locs ls hR hS hl
              unfold f14_go_j271 at hf
              refine lv_iconst (v := 0) hx hb dX14_go_271 li_0 ?_
              exact hj272 (0 : Int32) hf _ _ _ hR hS (lv_sub hl [0, 1, 2] rfl)
            refine lv_if_eq (tgt := 271) hx hb dX14_go_255 (by decide) (fun c29 => ?_) (fun c29 => ?_)
            · have hf := ite_t c29 hf
              exact hj271 () hf _ _ _ hR hS (lv_sub hl [1, 2, 0] rfl)
            · have hf := ite_f c29 hf
              refine lv_iload hx hb dX14_go_258 (lv_at hl 0 rfl) ?_
              obtain ⟨rr30, hrr30, hf⟩ := bind_s hf
              refine g0_cS (rm := (0, 0)) (As := [.int v16]) (rest := []) ⟨hx, hb, hml, hown, hts⟩ hG hR hS (m14_isLetter l G K (ov I [(1105, o, w7_i_to), (1106, o, j96_i_from), (1107, o, j198_i_kind), (1108, o, w7_i_number), (1109, o, j198_i_sign)]) (ov J [(1112, o, w7_j_word)]) X A B Q v16 rr30 hrr30) (cwS 1 hts gi_X14_173 rfl rfl rfl hd_X14_isLetter ⟨Nat.le_of_ble_eq_true rfl, Nat.le_of_ble_eq_true rfl⟩) rfl hl.1 (Nat.le_of_ble_eq_true rfl) dX14_go_260 ⟨Nat.le_refl _, Nat.le_refl _⟩ rfl (fun H locs hR hS => ?_)
              refine lv_iload_n hx hb dX14_go_263 rfl (lv_at hl 2 rfl) ?_
              refine lv_icmp_ne (tgt := 271) hx hb dX14_go_264 (by decide) (fun c31 => ?_) (fun c31 => ?_)
              · have hf := ite_f c31 hf
                exact hj271 () hf _ _ _ hR hS (lv_sub hl [1, 2, 0] rfl)
              · have hf := ite_t c31 hf
                refine lv_iconst (v := 1) hx hb dX14_go_267 li_1 ?_
                refine lv_goto (tgt := 272) hx hb dX14_go_268 (by decide) ?_
                exact hj272 (1 : Int32) hf _ _ _ hR hS (lv_sub hl [1, 2, 0] rfl)
          refine lv_if_ne (tgt := 243) hx hb dX14_go_226 (by decide) (fun c32 => ?_) (fun c32 => ?_)
          · have hf := ite_f c32 hf
            exact hj243 () hf _ _ _ hR hS (lv_sub hl [0, 1, 2] rfl)
          · have hf := ite_t c32 hf
            refine lv_aload_n hx hb dX14_go_229 rfl (lv_at hl 0 rfl) ?_
            refine lv_aload_n hx hb dX14_go_230 rfl (lv_at hl 0 rfl) ?_
            refine n_geti (v := w7_i_to) hx hb hts hown hG hR gFi_X14_161_11 shM.1 (ov_get 0 rfl rfl) dX14_go_231 ?_
            obtain ⟨rr33, hrr33, hf⟩ := bind_s hf
            refine g0_cV (rm := (0, 0)) (As := [.int w7_i_to]) (rest := []) ⟨hx, hb, hml, hown, hts⟩ hG hR hS (m14_byteAt l G K (ov I [(1105, o, w7_i_to), (1106, o, j96_i_from), (1107, o, j198_i_kind), (1108, o, w7_i_number), (1109, o, j198_i_sign)]) (ov J [(1112, o, w7_j_word)]) X A B Q o shM w7_i_to i_size a_tape ((congrFun (ov_no rfl) _).trans e_i_size) e_a_tape rr33 hrr33) (cwV 1 hts gi_X14_190 rfl rfl rfl hd_X14_byteAt ⟨Nat.le_of_ble_eq_true rfl, Nat.le_of_ble_eq_true rfl⟩) shM.1 rfl rfl hl.1 (Nat.le_of_ble_eq_true rfl) dX14_go_234 ⟨Nat.le_refl _, Nat.le_refl _⟩ rfl (fun H locs hR hS => ?_)
            obtain ⟨rr34, hrr34, hf⟩ := bind_s hf
            refine g0_cS (rm := (0, 0)) (As := [.int rr33]) (rest := []) ⟨hx, hb, hml, hown, hts⟩ hG hR hS (m14_isDigit l G K (ov I [(1105, o, w7_i_to), (1106, o, j96_i_from), (1107, o, j198_i_kind), (1108, o, w7_i_number), (1109, o, j198_i_sign)]) (ov J [(1112, o, w7_j_word)]) X A B Q rr33 rr34 hrr34) (cwS 1 hts gi_X14_177 rfl rfl rfl hd_X14_isDigit ⟨Nat.le_of_ble_eq_true rfl, Nat.le_of_ble_eq_true rfl⟩) rfl hl.1 (Nat.le_of_ble_eq_true rfl) dX14_go_237 ⟨Nat.le_refl _, Nat.le_refl _⟩ rfl (fun H locs hR hS => ?_)
            refine lv_if_eq (tgt := 351) hx hb dX14_go_240 (by decide) (fun c35 => ?_) (fun c35 => ?_)
            · have hf := ite_t c35 hf
              obtain rfl := some_i hf
              replace hk7 : _ = rl7 := hk7
              subst hk7
              exact hx7_0 (w7_3, w7_i_to, w7_i_number, w7_j_word) hfo7 _ _ _ hR hS (lv_sub hl [0, 1, 2] rfl)
            · have hf := ite_f c35 hf
              exact hj243 () hf _ _ _ hR hS (lv_sub hl [0, 1, 2] rfl)
        refine lv_if_ne (tgt := 198) hx hb dX14_go_127 (by decide) (fun c36 => ?_) (fun c36 => ?_)
        · have hf := ite_f c36 hf
          exact hj198 x1_0 j96_i_kind i_sign hf _ _ _ hR hS (lv_sub hl [1, 0] rfl)
        · have hf := ite_t c36 hf
          refine lv_iload_n hx hb dX14_go_130 rfl (lv_at hl 0 rfl) ?_
          obtain ⟨rr37, hrr37, hf⟩ := bind_s hf
          refine g0_cS (rm := (0, 0)) (As := [.int v4]) (rest := []) ⟨hx, hb, hml, hown, hts⟩ hG hR hS (m14_isDigit l G K (ov I [(1105, o, x1_0), (1106, o, j96_i_from), (1107, o, j96_i_kind), (1108, o, i_number), (1109, o, i_sign)]) (ov J [(1112, o, j_word)]) X A B Q v4 rr37 hrr37) (cwS 1 hts gi_X14_177 rfl rfl rfl hd_X14_isDigit ⟨Nat.le_of_ble_eq_true rfl, Nat.le_of_ble_eq_true rfl⟩) rfl hl.1 (Nat.le_of_ble_eq_true rfl) dX14_go_131 ⟨Nat.le_refl _, Nat.le_refl _⟩ rfl (fun H locs hR hS => ?_)
          refine lv_if_ne (tgt := 198) hx hb dX14_go_134 (by decide) (fun c38 => ?_) (fun c38 => ?_)
          · have hf := ite_f c38 hf
            exact hj198 x1_0 j96_i_kind i_sign hf _ _ _ hR hS (lv_sub hl [1, 0] rfl)
          · have hf := ite_t c38 hf
            refine lv_aload_n hx hb dX14_go_137 rfl (lv_at hl 1 rfl) ?_
            refine lv_iload_n hx hb dX14_go_138 rfl (lv_at hl 0 rfl) ?_
            refine lv_bipush (v := 59) hx hb dX14_go_139 lb_59 ?_
            have hj179 : ∀ (j179_s0 : Int32), f14_go_j179 i_number j_word x1_0 j96_i_from v4 j179_s0 = some out → ∀ (H : Heap) (locs : List Loc) (ls : Array Slot), RS G K (ov I [(1105, o, x1_0), (1106, o, j96_i_from), (1107, o, j96_i_kind), (1108, o, i_number), (1109, o, i_sign)]) (ov J [(1112, o, j_word)]) X A B Q H → va_S (gA G) s.heap H locs → lv_has ls 5 [(0, .ref o), (1, .int v4)] → W p l e ({ frames := 1, cells := 0, slots := 0, locals := 21 } : Room) s m args below meth c H locs 0 0 Z (F0 m 179 ls [.int j179_s0, .ref o]) := by
              intro j179_s0 hf H locs ls hR hS hl
              unfold f14_go_j179 at hf
              refine n_puti (li' := [(1105, o, x1_0), (1106, o, j96_i_from), (1107, o, j179_s0), (1108, o, i_number), (1109, o, i_sign)]) hx hb hts hown hG hR hS gPi_X14_170_11 shM.1 2 rfl rfl rfl dX14_go_179 (fun H locs hR hS => ?_)
              refine lv_aload_n hx hb dX14_go_182 rfl (lv_at hl 0 rfl) ?_
              refine lv_iload_n hx hb dX14_go_183 rfl (lv_at hl 1 rfl) ?_
              refine n_puti (li' := [(1105, o, x1_0), (1106, o, j96_i_from), (1107, o, j179_s0), (1108, o, i_number), (1109, o, v4)]) hx hb hts hown hG hR hS gPi_X14_180_11 shM.1 4 rfl rfl rfl dX14_go_184 (fun H locs hR hS => ?_)
              refine lv_aload_n hx hb dX14_go_187 rfl (lv_at hl 0 rfl) ?_
              refine lv_dup hx hb dX14_go_188 rfl ?_
              refine n_geti (v := x1_0) hx hb hts hown hG hR gFi_X14_161_11 shM.1 (ov_get 0 rfl rfl) dX14_go_189 ?_
              refine lv_iconst (v := 1) hx hb dX14_go_192 li_1 ?_
              obtain ⟨v39, ev39, hf⟩ := lt_some hf
              refine n_iadd hx hb ev39 dX14_go_193 ?_
              refine n_puti (li' := [(1105, o, v39), (1106, o, j96_i_from), (1107, o, j179_s0), (1108, o, i_number), (1109, o, v4)]) hx hb hts hown hG hR hS gPi_X14_161_11 shM.1 0 rfl rfl rfl dX14_go_194 (fun H locs hR hS => ?_)
              obtain rfl := some_i hf
              exact hend _ _ _ _ dX14_go_197 hR hS
            have hj174 : ∀ (_ : Unit), f14_go_j174 i_number j_word x1_0 j96_i_from v4 = some out → ∀ (H : Heap) (locs : List Loc) (ls : Array Slot), RS G K (ov I [(1105, o, x1_0), (1106, o, j96_i_from), (1107, o, j96_i_kind), (1108, o, i_number), (1109, o, i_sign)]) (ov J [(1112, o, j_word)]) X A B Q H → va_S (gA G) s.heap H locs → lv_has ls 5 [(0, .ref o), (1, .int v4)] → W p l e ({ frames := 1, cells := 0, slots := 0, locals := 21 } : Room) s m args below meth c H locs 0 0 Z (F0 m 174 ls [.ref o]) := by
              intro _ hf H locs ls hR hS hl
              unfold f14_go_j174 at hf
              refine lv_iconst (v := 4) hx hb dX14_go_174 li_4 ?_
              refine lv_goto (tgt := 179) hx hb dX14_go_175 (by decide) ?_
              exact hj179 (4 : Int32) hf _ _ _ hR hS (lv_sub hl [0, 1] rfl)
            refine lv_icmp_eq (tgt := 174) hx hb dX14_go_141 (by decide) (fun c40 => ?_) (fun c40 => ?_)
            · have hf := ite_t c40 hf
              exact hj174 () hf _ _ _ hR hS (lv_sub hl [1, 0] rfl)
            · have hf := ite_f c40 hf
              refine lv_iload_n hx hb dX14_go_144 rfl (lv_at hl 0 rfl) ?_
              refine lv_bipush (v := 60) hx hb dX14_go_145 lb_60 ?_
              refine lv_icmp_eq (tgt := 174) hx hb dX14_go_147 (by decide) (fun c41 => ?_) (fun c41 => ?_)
              · have hf := ite_t c41 hf
                exact hj174 () hf _ _ _ hR hS (lv_sub hl [1, 0] rfl)
              · have hf := ite_f c41 hf
                refine lv_iload_n hx hb dX14_go_150 rfl (lv_at hl 0 rfl) ?_
                refine lv_bipush (v := 61) hx hb dX14_go_151 lb_61 ?_
                refine lv_icmp_eq (tgt := 174) hx hb dX14_go_153 (by decide) (fun c42 => ?_) (fun c42 => ?_)
                · have hf := ite_t c42 hf
                  exact hj174 () hf _ _ _ hR hS (lv_sub hl [1, 0] rfl)
                · have hf := ite_f c42 hf
                  refine lv_iload_n hx hb dX14_go_156 rfl (lv_at hl 0 rfl) ?_
                  refine lv_bipush (v := 62) hx hb dX14_go_157 lb_62 ?_
                  refine lv_icmp_eq (tgt := 174) hx hb dX14_go_159 (by decide) (fun c43 => ?_) (fun c43 => ?_)
                  · have hf := ite_t c43 hf
                    exact hj174 () hf _ _ _ hR hS (lv_sub hl [1, 0] rfl)
                  · have hf := ite_f c43 hf
                    refine lv_iload_n hx hb dX14_go_162 rfl (lv_at hl 0 rfl) ?_
                    refine lv_bipush (v := 40) hx hb dX14_go_163 lb_40 ?_
                    refine lv_icmp_eq (tgt := 174) hx hb dX14_go_165 (by decide) (fun c44 => ?_) (fun c44 => ?_)
                    · have hf := ite_t c44 hf
                      exact hj174 () hf _ _ _ hR hS (lv_sub hl [1, 0] rfl)
                    · have hf := ite_f c44 hf
                      refine lv_iload_n hx hb dX14_go_168 rfl (lv_at hl 0 rfl) ?_
                      refine lv_bipush (v := 41) hx hb dX14_go_169 lb_41 ?_
                      refine lv_icmp_ne (tgt := 178) hx hb dX14_go_171 (by decide) (fun c45 => ?_) (fun c45 => ?_)
                      · have hf := ite_f c45 hf
                        refine lv_iconst (v := 1) hx hb dX14_go_178 li_1 ?_
                        exact hj179 (1 : Int32) hf _ _ _ hR hS (lv_sub hl [1, 0] rfl)
                      · have hf := ite_t c45 hf
                        exact hj174 () hf _ _ _ hR hS (lv_sub hl [1, 0] rfl)
      · have hf := ite_f c2 hf
        refine lv_aload_n hx hb dX14_go_107 rfl (lv_at hl 0 rfl) ?_
        refine lv_iconst (v := 0) hx hb dX14_go_108 li_0 ?_
        refine n_puti (li' := [(1105, o, x1_0), (1106, o, j96_i_from), (1107, o, (0 : Int32)), (1108, o, i_number), (1109, o, i_sign)]) hx hb hts hown hG hR hS gPi_X14_170_11 shM.1 2 rfl rfl rfl dX14_go_109 (fun H locs hR hS => ?_)
        obtain rfl := some_i hf
        exact hend _ _ _ _ dX14_go_112 hR hS
    refine lv_icmp_le (tgt := 96) hx hb dX14_go_68 (by decide) (fun c46 => ?_) (fun c46 => ?_)
    · have hf := ite_t c46 hf
      exact hj96 x1_0 i_kind hf _ _ _ hR hS (lv_sub hl [0] rfl)
    · have hf := ite_f c46 hf
      refine lv_aload_n hx hb dX14_go_71 rfl (lv_at hl 0 rfl) ?_
      refine n_geti (v := x1_0) hx hb hts hown hG hR gFi_X14_164_11 shM.1 (ov_get 1 rfl rfl) dX14_go_72 ?_
      refine lv_aload_n hx hb dX14_go_75 rfl (lv_at hl 0 rfl) ?_
      refine n_geti (v := i_limit) hx hb hts hown hG hR gFi_X14_167_11 shM.1 ((congrFun (ov_no rfl) _).trans e_i_limit) dX14_go_76 ?_
      refine lv_icmp_lt (tgt := 96) hx hb dX14_go_79 (by decide) (fun c47 => ?_) (fun c47 => ?_)
      · have hf := ite_t c47 hf
        exact hj96 x1_0 i_kind hf _ _ _ hR hS (lv_sub hl [0] rfl)
      · have hf := ite_f c47 hf
        refine lv_aload_n hx hb dX14_go_82 rfl (lv_at hl 0 rfl) ?_
        refine lv_aload_n hx hb dX14_go_83 rfl (lv_at hl 0 rfl) ?_
        refine n_geti (v := i_limit) hx hb hts hown hG hR gFi_X14_167_11 shM.1 ((congrFun (ov_no rfl) _).trans e_i_limit) dX14_go_84 ?_
        refine n_puti (li' := [(1105, o, x1_0), (1106, o, i_limit), (1107, o, i_kind), (1108, o, i_number), (1109, o, i_sign)]) hx hb hts hown hG hR hS gPi_X14_164_11 shM.1 1 rfl rfl rfl dX14_go_87 (fun H locs hR hS => ?_)
        refine lv_aload_n hx hb dX14_go_90 rfl (lv_at hl 0 rfl) ?_
        refine lv_iconst (v := 1) hx hb dX14_go_91 li_1 ?_
        refine n_puti (li' := [(1105, o, x1_0), (1106, o, i_limit), (1107, o, (1 : Int32)), (1108, o, i_number), (1109, o, i_sign)]) hx hb hts hown hG hR hS gPi_X14_170_11 shM.1 2 rfl rfl rfl dX14_go_92 (fun H locs hR hS => ?_)
        obtain rfl := some_i hf
        exact hend _ _ _ _ dX14_go_95 hR hS
  refine whl_walk (P := fun (s1 : Int32) => ∀ (H : Heap) (locs : List Loc) (ls : Array Slot), RS G K (ov I [(1105, o, s1), (1106, o, i_from), (1107, o, i_kind), (1108, o, i_number), (1109, o, i_sign)]) (ov J [(1112, o, j_word)]) X A B Q H → va_S (gA G) s.heap H locs → lv_has ls 5 [(0, .ref o)] → W p l e ({ frames := 1, cells := 0, slots := 0, locals := 21 } : Room) s m args below meth c H locs 0 0 Z (F0 m 0 ls [])) (r := rl1) ?_ FU _ hw1 _ _ _ hR hS (lv_sub hl [0] rfl)
  clear hR hS hl hf
  intro s1 o1 hf hk1 H locs ls hR hS hl
  obtain ⟨w1_i_to, rfl⟩ : ∃ z, z = s1 := ⟨_, rfl⟩
  have hf : f14_go_s1 i_size a_tape w1_i_to = some o1 := hf
  have hR : RS G K (ov I [(1105, o, w1_i_to), (1106, o, i_from), (1107, o, i_kind), (1108, o, i_number), (1109, o, i_sign)]) (ov J [(1112, o, j_word)]) X A B Q H := hR
  have hl : lv_has ls 5 [(0, .ref o)] := hl
  unfold f14_go_s1 at hf
  refine lv_aload_n hx hb dX14_go_0 rfl (lv_at hl 0 rfl) ?_
  refine n_geti (v := w1_i_to) hx hb hts hown hG hR gFi_X14_161_11 shM.1 (ov_get 0 rfl rfl) dX14_go_1 ?_
  refine lv_aload_n hx hb dX14_go_4 rfl (lv_at hl 0 rfl) ?_
  refine n_geti (v := i_size) hx hb hts hown hG hR gFi_X14_158_11 shM.1 ((congrFun (ov_no rfl) _).trans e_i_size) dX14_go_5 ?_
  refine lv_icmp_ge (tgt := 52) hx hb dX14_go_8 (by decide) (fun c48 => ?_) (fun c48 => ?_)
  · have hf := ite_t c48 hf
    obtain rfl := some_i hf
    replace hk1 : _ = rl1 := hk1
    subst hk1
    exact hx1_0 w1_i_to hfo1 _ _ _ hR hS (lv_sub hl [0] rfl)
  · have hf := ite_f c48 hf
    refine lv_aload_n hx hb dX14_go_11 rfl (lv_at hl 0 rfl) ?_
    refine g_getr (b := (o + 1)) hx hb hts hown hG hR gFx_X14_7_11 shM.1 ((shM.2 0 _ rfl).2) dX14_go_12 ?_
    refine lv_aload_n hx hb dX14_go_15 rfl (lv_at hl 0 rfl) ?_
    refine n_geti (v := w1_i_to) hx hb hts hown hG hR gFi_X14_161_11 shM.1 (ov_get 0 rfl rfl) dX14_go_16 ?_
    obtain ⟨c49, hf⟩ := gd_some hf
    obtain ⟨v50, ev50, hf⟩ := lt_some hf
    refine n_iald (x := a_tape) hx hb hG hR k_a_tape c49 e_a_tape ev50 dX14_go_19 ?_
    refine lv_bipush (v := 32) hx hb dX14_go_20 lb_32 ?_
    have hj39 : ∀ (_ : Unit), f14_go_j39 w1_i_to = some o1 → ∀ (H : Heap) (locs : List Loc) (ls : Array Slot), RS G K (ov I [(1105, o, w1_i_to), (1106, o, i_from), (1107, o, i_kind), (1108, o, i_number), (1109, o, i_sign)]) (ov J [(1112, o, j_word)]) X A B Q H → va_S (gA G) s.heap H locs → lv_has ls 5 [(0, .ref o)] → W p l e ({ frames := 1, cells := 0, slots := 0, locals := 21 } : Room) s m args below meth c H locs 0 0 Z (F0 m 39 ls []) := by
      intro _ hf H locs ls hR hS hl
      unfold f14_go_j39 at hf
      refine lv_aload_n hx hb dX14_go_39 rfl (lv_at hl 0 rfl) ?_
      refine lv_dup hx hb dX14_go_40 rfl ?_
      refine n_geti (v := w1_i_to) hx hb hts hown hG hR gFi_X14_161_11 shM.1 (ov_get 0 rfl rfl) dX14_go_41 ?_
      refine lv_iconst (v := 1) hx hb dX14_go_44 li_1 ?_
      obtain ⟨v51, ev51, hf⟩ := lt_some hf
      refine n_iadd hx hb ev51 dX14_go_45 ?_
      refine n_puti (li' := [(1105, o, v51), (1106, o, i_from), (1107, o, i_kind), (1108, o, i_number), (1109, o, i_sign)]) hx hb hts hown hG hR hS gPi_X14_161_11 shM.1 0 rfl rfl rfl dX14_go_46 (fun H locs hR hS => ?_)
      refine lv_goto (tgt := 0) hx hb dX14_go_49 (by decide) ?_
      obtain rfl := some_i hf
      exact hk1 _ _ _ hR hS (lv_sub hl [0] rfl)
    refine lv_icmp_eq (tgt := 39) hx hb dX14_go_22 (by decide) (fun c52 => ?_) (fun c52 => ?_)
    · have hf := ite_t c52 hf
      exact hj39 () hf _ _ _ hR hS (lv_sub hl [0] rfl)
    · have hf := ite_f c52 hf
      refine lv_aload_n hx hb dX14_go_25 rfl (lv_at hl 0 rfl) ?_
      refine g_getr (b := (o + 1)) hx hb hts hown hG hR gFx_X14_7_11 shM.1 ((shM.2 0 _ rfl).2) dX14_go_26 ?_
      refine lv_aload_n hx hb dX14_go_29 rfl (lv_at hl 0 rfl) ?_
      refine n_geti (v := w1_i_to) hx hb hts hown hG hR gFi_X14_161_11 shM.1 (ov_get 0 rfl rfl) dX14_go_30 ?_
      obtain ⟨c53, hf⟩ := gd_some hf
      obtain ⟨v54, ev54, hf⟩ := lt_some hf
      refine n_iald (x := a_tape) hx hb hG hR k_a_tape c53 e_a_tape ev54 dX14_go_33 ?_
      refine lv_bipush (v := 10) hx hb dX14_go_34 lb_10 ?_
      refine lv_icmp_ne (tgt := 52) hx hb dX14_go_36 (by decide) (fun c55 => ?_) (fun c55 => ?_)
      · have hf := ite_f c55 hf
        obtain rfl := some_i hf
        replace hk1 : _ = rl1 := hk1
        subst hk1
        exact hx1_0 w1_i_to hfo1 _ _ _ hR hS (lv_sub hl [0] rfl)
      · have hf := ite_t c55 hf
        exact hj39 () hf _ _ _ hR hS (lv_sub hl [0] rfl)
noncomputable def f14_wordOf (p1 : Int32) : Option (Int64) :=
  if p1 = 0 then
    (f14_spelt (109 : Int32) (97 : Int32) (110 : Int32) (0 : Int32) (0 : Int32)).bind fun rr2 =>
    some rr2
  else
  if p1 = 1 then
    (f14_spelt (99 : Int32) (101 : Int32) (108 : Int32) (108 : Int32) (115 : Int32)).bind fun rr4 =>
    some rr4
  else
  if p1 = 2 then
    (f14_spelt (98 : Int32) (117 : Int32) (114 : Int32) (110 : Int32) (0 : Int32)).bind fun rr6 =>
    some rr6
  else
  if p1 = 3 then
    (f14_spelt (119 : Int32) (97 : Int32) (121 : Int32) (0 : Int32) (0 : Int32)).bind fun rr8 =>
    some rr8
  else
  if p1 = 4 then
    (f14_spelt (112 : Int32) (97 : Int32) (105 : Int32) (108 : Int32) (115 : Int32)).bind fun rr10 =>
    some rr10
  else
  if p1 = 5 then
    (f14_spelt (119 : Int32) (101 : Int32) (108 : Int32) (108 : Int32) (0 : Int32)).bind fun rr12 =>
    some rr12
  else
  if p1 = 6 then
    (f14_spelt (115 : Int32) (112 : Int32) (105 : Int32) (108 : Int32) (108 : Int32)).bind fun rr14 =>
    some rr14
  else
  if p1 = 7 then
    (f14_spelt (98 : Int32) (97 : Int32) (99 : Int32) (107 : Int32) (0 : Int32)).bind fun rr16 =>
    some rr16
  else
  if p1 = 8 then
    (f14_spelt (116 : Int32) (104 : Int32) (114 : Int32) (111 : Int32) (119 : Int32)).bind fun rr18 =>
    some rr18
  else
  if p1 = 9 then
    (f14_spelt (119 : Int32) (105 : Int32) (110 : Int32) (100 : Int32) (0 : Int32)).bind fun rr20 =>
    some rr20
  else
  if p1 = 10 then
    (f14_spelt (110 : Int32) (111 : Int32) (114 : Int32) (116 : Int32) (104 : Int32)).bind fun rr22 =>
    some rr22
  else
  if p1 = 11 then
    (f14_spelt (101 : Int32) (97 : Int32) (115 : Int32) (116 : Int32) (0 : Int32)).bind fun rr24 =>
    some rr24
  else
  if p1 = 12 then
    (f14_spelt (115 : Int32) (111 : Int32) (117 : Int32) (116 : Int32) (104 : Int32)).bind fun rr26 =>
    some rr26
  else
  if p1 = 13 then
    (f14_spelt (119 : Int32) (101 : Int32) (115 : Int32) (116 : Int32) (0 : Int32)).bind fun rr28 =>
    some rr28
  else
  if p1 = 14 then
    (f14_spelt (97 : Int32) (116 : Int32) (0 : Int32) (0 : Int32) (0 : Int32)).bind fun rr30 =>
    some rr30
  else
  if p1 = 15 then
    (f14_spelt (114 : Int32) (111 : Int32) (119 : Int32) (0 : Int32) (0 : Int32)).bind fun rr32 =>
    some rr32
  else
  if p1 = 16 then
    (f14_spelt (114 : Int32) (117 : Int32) (110 : Int32) (0 : Int32) (0 : Int32)).bind fun rr34 =>
    some rr34
  else
  if p1 = 17 then
    (f14_spelt (115 : Int32) (116 : Int32) (111 : Int32) (112 : Int32) (0 : Int32)).bind fun rr36 =>
    some rr36
  else
  if p1 = 18 then
    (f14_spelt (97 : Int32) (105 : Int32) (109 : Int32) (0 : Int32) (0 : Int32)).bind fun rr38 =>
    some rr38
  else
  if p1 = 19 then
    (f14_spelt (103 : Int32) (105 : Int32) (118 : Int32) (101 : Int32) (0 : Int32)).bind fun rr40 =>
    some rr40
  else
  if p1 = 20 then
    (f14_spelt (111 : Int32) (114 : Int32) (0 : Int32) (0 : Int32) (0 : Int32)).bind fun rr42 =>
    some rr42
  else
  if p1 = 21 then
    (f14_spelt (97 : Int32) (110 : Int32) (100 : Int32) (0 : Int32) (0 : Int32)).bind fun rr44 =>
    some rr44
  else
  if p1 = 22 then
    (f14_spelt (110 : Int32) (111 : Int32) (116 : Int32) (0 : Int32) (0 : Int32)).bind fun rr46 =>
    some rr46
  else
  if p1 = 23 then
    (f14_spelt (111 : Int32) (117 : Int32) (116 : Int32) (0 : Int32) (0 : Int32)).bind fun rr48 =>
    some rr48
  else
  if p1 = 24 then
    (f14_spelt (109 : Int32) (105 : Int32) (110 : Int32) (117 : Int32) (116 : Int32)).bind fun rr50 =>
    (f14_on rr50 (101 : Int32)).bind fun rr51 =>
    some rr51
  else
  if p1 = 25 then
    (f14_spelt (116 : Int32) (104 : Int32) (114 : Int32) (111 : Int32) (119 : Int32)).bind fun rr53 =>
    (f14_on rr53 (110 : Int32)).bind fun rr54 =>
    some rr54
  else
  if p1 = 26 then
    (f14_spelt (108 : Int32) (111 : Int32) (115 : Int32) (116 : Int32) (0 : Int32)).bind fun rr56 =>
    some rr56
  else
  if p1 = 27 then
    (f14_spelt (98 : Int32) (117 : Int32) (114 : Int32) (110 : Int32) (115 : Int32)).bind fun rr58 =>
    some rr58
  else
  (f14_spelt (119 : Int32) (97 : Int32) (116 : Int32) (101 : Int32) (114 : Int32)).bind fun rr59 =>
  some rr59
set_option maxHeartbeats 4000000 in
theorem m14_wordOf (l : Launch) (G : gG) (K : gK) (I : gI) (J : gJ) (X : gX) (A : gI) (B : gJ) (Q : gX)  (p1 : Int32)   (out : Int64) (hf : f14_wordOf p1 = some out) : GMet l yX14_wordOf cX14_wordOf 1 (some .long) (1) (26) G [.int p1] K I J X A B Q (some (.long out)) K I J X A B Q 0 0 := by
  refine GMet.of (y := yX14_wordOf) rfl (Nat.le_of_ble_eq_true rfl) rfl ?_
  intro p e s m below meth c ls hx hb hr hml hlocks hts hown hname hG hR hl
  have hown : s.vm.findClass RX14 = some m.cls := hown
  have hR : RS G K I J X A B Q s.heap := hR.to rfl rfl rfl rfl rfl rfl
  have hS : va_S (gA G) s.heap s.heap [] := va_S.rf
  have hend : ∀ (pc : Nat) (H : Heap) (locs : List Loc) (ls : Array Slot), decode cX14_wordOf pc = .ok (.lreturn, 1) → RS G K I J X A B Q H → va_S (gA G) s.heap H locs → W p l e ({ frames := 1, cells := 0, slots := 0, locals := 26 } : Room) s m ([.int p1] : List Value).toArray below meth c H locs 0 0 (MQ below (gQ G (some (.long out)) K I J X A B Q) ([.int p1] : List Value).toArray s 0 0 (gA G)) (F0 m pc ls [.long out]) := fun pc H locs ls hd hR hS => g_lret hx hb hr hlocks hG hR hS rfl hd
  generalize MQ below (gQ G (some (.long out)) K I J X A B Q) ([.int p1] : List Value).toArray s 0 0 (gA G) = Z at hend ⊢
  generalize ([.int p1] : List Value).toArray = args at hts hend ⊢
  unfold f14_wordOf at hf
  refine lv_iload_n hx hb dX14_wordOf_0 rfl (lv_at hl 0 rfl) ?_
  by_cases c1 : p1 = 0
  · have hf := ite_t c1 hf
    refine lv_tableIn (tgt := 128) hx hb dX14_wordOf_1 (by rw [c1]; decide) (by rw [c1]; decide) (off := 127) (by rw [c1]; rfl) (by decide) ?_
    refine lv_bipush (v := 109) hx hb dX14_wordOf_128 lb_109 ?_
    refine lv_bipush (v := 97) hx hb dX14_wordOf_130 lb_97 ?_
    refine lv_bipush (v := 110) hx hb dX14_wordOf_132 lb_110 ?_
    refine lv_iconst (v := 0) hx hb dX14_wordOf_134 li_0 ?_
    refine lv_iconst (v := 0) hx hb dX14_wordOf_135 li_0 ?_
    obtain ⟨rr2, hrr2, hf⟩ := bind_s hf
    refine g0_cS (rm := (0, 0)) (As := [.int (109 : Int32), .int (97 : Int32), .int (110 : Int32), .int (0 : Int32), .int (0 : Int32)]) (rest := []) ⟨hx, hb, hml, hown, hts⟩ hG hR hS (m14_spelt l G K I J X A B Q (109 : Int32) (97 : Int32) (110 : Int32) (0 : Int32) (0 : Int32) rr2 hrr2) (cwS 5 hts gi_X14_198 rfl rfl rfl hd_X14_spelt ⟨Nat.le_of_ble_eq_true rfl, Nat.le_of_ble_eq_true rfl⟩) rfl hl.1 (Nat.le_of_ble_eq_true rfl) dX14_wordOf_136 ⟨Nat.le_refl _, Nat.le_refl _⟩ rfl (fun H locs hR hS => ?_)
    obtain rfl := some_i hf
    exact hend _ _ _ _ dX14_wordOf_139 hR hS
  have hf := ite_f c1 hf
  by_cases c3 : p1 = 1
  · have hf := ite_t c3 hf
    refine lv_tableIn (tgt := 140) hx hb dX14_wordOf_1 (by rw [c3]; decide) (by rw [c3]; decide) (off := 139) (by rw [c3]; rfl) (by decide) ?_
    refine lv_bipush (v := 99) hx hb dX14_wordOf_140 lb_99 ?_
    refine lv_bipush (v := 101) hx hb dX14_wordOf_142 lb_101 ?_
    refine lv_bipush (v := 108) hx hb dX14_wordOf_144 lb_108 ?_
    refine lv_bipush (v := 108) hx hb dX14_wordOf_146 lb_108 ?_
    refine lv_bipush (v := 115) hx hb dX14_wordOf_148 lb_115 ?_
    obtain ⟨rr4, hrr4, hf⟩ := bind_s hf
    refine g0_cS (rm := (0, 0)) (As := [.int (99 : Int32), .int (101 : Int32), .int (108 : Int32), .int (108 : Int32), .int (115 : Int32)]) (rest := []) ⟨hx, hb, hml, hown, hts⟩ hG hR hS (m14_spelt l G K I J X A B Q (99 : Int32) (101 : Int32) (108 : Int32) (108 : Int32) (115 : Int32) rr4 hrr4) (cwS 5 hts gi_X14_198 rfl rfl rfl hd_X14_spelt ⟨Nat.le_of_ble_eq_true rfl, Nat.le_of_ble_eq_true rfl⟩) rfl hl.1 (Nat.le_of_ble_eq_true rfl) dX14_wordOf_150 ⟨Nat.le_refl _, Nat.le_refl _⟩ rfl (fun H locs hR hS => ?_)
    obtain rfl := some_i hf
    exact hend _ _ _ _ dX14_wordOf_153 hR hS
  have hf := ite_f c3 hf
  by_cases c5 : p1 = 2
  · have hf := ite_t c5 hf
    refine lv_tableIn (tgt := 154) hx hb dX14_wordOf_1 (by rw [c5]; decide) (by rw [c5]; decide) (off := 153) (by rw [c5]; rfl) (by decide) ?_
    refine lv_bipush (v := 98) hx hb dX14_wordOf_154 lb_98 ?_
    refine lv_bipush (v := 117) hx hb dX14_wordOf_156 lb_117 ?_
    refine lv_bipush (v := 114) hx hb dX14_wordOf_158 lb_114 ?_
    refine lv_bipush (v := 110) hx hb dX14_wordOf_160 lb_110 ?_
    refine lv_iconst (v := 0) hx hb dX14_wordOf_162 li_0 ?_
    obtain ⟨rr6, hrr6, hf⟩ := bind_s hf
    refine g0_cS (rm := (0, 0)) (As := [.int (98 : Int32), .int (117 : Int32), .int (114 : Int32), .int (110 : Int32), .int (0 : Int32)]) (rest := []) ⟨hx, hb, hml, hown, hts⟩ hG hR hS (m14_spelt l G K I J X A B Q (98 : Int32) (117 : Int32) (114 : Int32) (110 : Int32) (0 : Int32) rr6 hrr6) (cwS 5 hts gi_X14_198 rfl rfl rfl hd_X14_spelt ⟨Nat.le_of_ble_eq_true rfl, Nat.le_of_ble_eq_true rfl⟩) rfl hl.1 (Nat.le_of_ble_eq_true rfl) dX14_wordOf_163 ⟨Nat.le_refl _, Nat.le_refl _⟩ rfl (fun H locs hR hS => ?_)
    obtain rfl := some_i hf
    exact hend _ _ _ _ dX14_wordOf_166 hR hS
  have hf := ite_f c5 hf
  by_cases c7 : p1 = 3
  · have hf := ite_t c7 hf
    refine lv_tableIn (tgt := 167) hx hb dX14_wordOf_1 (by rw [c7]; decide) (by rw [c7]; decide) (off := 166) (by rw [c7]; rfl) (by decide) ?_
    refine lv_bipush (v := 119) hx hb dX14_wordOf_167 lb_119 ?_
    refine lv_bipush (v := 97) hx hb dX14_wordOf_169 lb_97 ?_
    refine lv_bipush (v := 121) hx hb dX14_wordOf_171 lb_121 ?_
    refine lv_iconst (v := 0) hx hb dX14_wordOf_173 li_0 ?_
    refine lv_iconst (v := 0) hx hb dX14_wordOf_174 li_0 ?_
    obtain ⟨rr8, hrr8, hf⟩ := bind_s hf
    refine g0_cS (rm := (0, 0)) (As := [.int (119 : Int32), .int (97 : Int32), .int (121 : Int32), .int (0 : Int32), .int (0 : Int32)]) (rest := []) ⟨hx, hb, hml, hown, hts⟩ hG hR hS (m14_spelt l G K I J X A B Q (119 : Int32) (97 : Int32) (121 : Int32) (0 : Int32) (0 : Int32) rr8 hrr8) (cwS 5 hts gi_X14_198 rfl rfl rfl hd_X14_spelt ⟨Nat.le_of_ble_eq_true rfl, Nat.le_of_ble_eq_true rfl⟩) rfl hl.1 (Nat.le_of_ble_eq_true rfl) dX14_wordOf_175 ⟨Nat.le_refl _, Nat.le_refl _⟩ rfl (fun H locs hR hS => ?_)
    obtain rfl := some_i hf
    exact hend _ _ _ _ dX14_wordOf_178 hR hS
  have hf := ite_f c7 hf
  by_cases c9 : p1 = 4
  · have hf := ite_t c9 hf
    refine lv_tableIn (tgt := 179) hx hb dX14_wordOf_1 (by rw [c9]; decide) (by rw [c9]; decide) (off := 178) (by rw [c9]; rfl) (by decide) ?_
    refine lv_bipush (v := 112) hx hb dX14_wordOf_179 lb_112 ?_
    refine lv_bipush (v := 97) hx hb dX14_wordOf_181 lb_97 ?_
    refine lv_bipush (v := 105) hx hb dX14_wordOf_183 lb_105 ?_
    refine lv_bipush (v := 108) hx hb dX14_wordOf_185 lb_108 ?_
    refine lv_bipush (v := 115) hx hb dX14_wordOf_187 lb_115 ?_
    obtain ⟨rr10, hrr10, hf⟩ := bind_s hf
    refine g0_cS (rm := (0, 0)) (As := [.int (112 : Int32), .int (97 : Int32), .int (105 : Int32), .int (108 : Int32), .int (115 : Int32)]) (rest := []) ⟨hx, hb, hml, hown, hts⟩ hG hR hS (m14_spelt l G K I J X A B Q (112 : Int32) (97 : Int32) (105 : Int32) (108 : Int32) (115 : Int32) rr10 hrr10) (cwS 5 hts gi_X14_198 rfl rfl rfl hd_X14_spelt ⟨Nat.le_of_ble_eq_true rfl, Nat.le_of_ble_eq_true rfl⟩) rfl hl.1 (Nat.le_of_ble_eq_true rfl) dX14_wordOf_189 ⟨Nat.le_refl _, Nat.le_refl _⟩ rfl (fun H locs hR hS => ?_)
    obtain rfl := some_i hf
    exact hend _ _ _ _ dX14_wordOf_192 hR hS
  have hf := ite_f c9 hf
  by_cases c11 : p1 = 5
  · have hf := ite_t c11 hf
    refine lv_tableIn (tgt := 193) hx hb dX14_wordOf_1 (by rw [c11]; decide) (by rw [c11]; decide) (off := 192) (by rw [c11]; rfl) (by decide) ?_
    refine lv_bipush (v := 119) hx hb dX14_wordOf_193 lb_119 ?_
    refine lv_bipush (v := 101) hx hb dX14_wordOf_195 lb_101 ?_
    refine lv_bipush (v := 108) hx hb dX14_wordOf_197 lb_108 ?_
    refine lv_bipush (v := 108) hx hb dX14_wordOf_199 lb_108 ?_
    refine lv_iconst (v := 0) hx hb dX14_wordOf_201 li_0 ?_
    obtain ⟨rr12, hrr12, hf⟩ := bind_s hf
    refine g0_cS (rm := (0, 0)) (As := [.int (119 : Int32), .int (101 : Int32), .int (108 : Int32), .int (108 : Int32), .int (0 : Int32)]) (rest := []) ⟨hx, hb, hml, hown, hts⟩ hG hR hS (m14_spelt l G K I J X A B Q (119 : Int32) (101 : Int32) (108 : Int32) (108 : Int32) (0 : Int32) rr12 hrr12) (cwS 5 hts gi_X14_198 rfl rfl rfl hd_X14_spelt ⟨Nat.le_of_ble_eq_true rfl, Nat.le_of_ble_eq_true rfl⟩) rfl hl.1 (Nat.le_of_ble_eq_true rfl) dX14_wordOf_202 ⟨Nat.le_refl _, Nat.le_refl _⟩ rfl (fun H locs hR hS => ?_)
    obtain rfl := some_i hf
    exact hend _ _ _ _ dX14_wordOf_205 hR hS
  have hf := ite_f c11 hf
  by_cases c13 : p1 = 6
  · have hf := ite_t c13 hf
    refine lv_tableIn (tgt := 206) hx hb dX14_wordOf_1 (by rw [c13]; decide) (by rw [c13]; decide) (off := 205) (by rw [c13]; rfl) (by decide) ?_
    refine lv_bipush (v := 115) hx hb dX14_wordOf_206 lb_115 ?_
    refine lv_bipush (v := 112) hx hb dX14_wordOf_208 lb_112 ?_
    refine lv_bipush (v := 105) hx hb dX14_wordOf_210 lb_105 ?_
    refine lv_bipush (v := 108) hx hb dX14_wordOf_212 lb_108 ?_
    refine lv_bipush (v := 108) hx hb dX14_wordOf_214 lb_108 ?_
    obtain ⟨rr14, hrr14, hf⟩ := bind_s hf
    refine g0_cS (rm := (0, 0)) (As := [.int (115 : Int32), .int (112 : Int32), .int (105 : Int32), .int (108 : Int32), .int (108 : Int32)]) (rest := []) ⟨hx, hb, hml, hown, hts⟩ hG hR hS (m14_spelt l G K I J X A B Q (115 : Int32) (112 : Int32) (105 : Int32) (108 : Int32) (108 : Int32) rr14 hrr14) (cwS 5 hts gi_X14_198 rfl rfl rfl hd_X14_spelt ⟨Nat.le_of_ble_eq_true rfl, Nat.le_of_ble_eq_true rfl⟩) rfl hl.1 (Nat.le_of_ble_eq_true rfl) dX14_wordOf_216 ⟨Nat.le_refl _, Nat.le_refl _⟩ rfl (fun H locs hR hS => ?_)
    obtain rfl := some_i hf
    exact hend _ _ _ _ dX14_wordOf_219 hR hS
  have hf := ite_f c13 hf
  by_cases c15 : p1 = 7
  · have hf := ite_t c15 hf
    refine lv_tableIn (tgt := 220) hx hb dX14_wordOf_1 (by rw [c15]; decide) (by rw [c15]; decide) (off := 219) (by rw [c15]; rfl) (by decide) ?_
    refine lv_bipush (v := 98) hx hb dX14_wordOf_220 lb_98 ?_
    refine lv_bipush (v := 97) hx hb dX14_wordOf_222 lb_97 ?_
    refine lv_bipush (v := 99) hx hb dX14_wordOf_224 lb_99 ?_
    refine lv_bipush (v := 107) hx hb dX14_wordOf_226 lb_107 ?_
    refine lv_iconst (v := 0) hx hb dX14_wordOf_228 li_0 ?_
    obtain ⟨rr16, hrr16, hf⟩ := bind_s hf
    refine g0_cS (rm := (0, 0)) (As := [.int (98 : Int32), .int (97 : Int32), .int (99 : Int32), .int (107 : Int32), .int (0 : Int32)]) (rest := []) ⟨hx, hb, hml, hown, hts⟩ hG hR hS (m14_spelt l G K I J X A B Q (98 : Int32) (97 : Int32) (99 : Int32) (107 : Int32) (0 : Int32) rr16 hrr16) (cwS 5 hts gi_X14_198 rfl rfl rfl hd_X14_spelt ⟨Nat.le_of_ble_eq_true rfl, Nat.le_of_ble_eq_true rfl⟩) rfl hl.1 (Nat.le_of_ble_eq_true rfl) dX14_wordOf_229 ⟨Nat.le_refl _, Nat.le_refl _⟩ rfl (fun H locs hR hS => ?_)
    obtain rfl := some_i hf
    exact hend _ _ _ _ dX14_wordOf_232 hR hS
  have hf := ite_f c15 hf
  by_cases c17 : p1 = 8
  · have hf := ite_t c17 hf
    refine lv_tableIn (tgt := 233) hx hb dX14_wordOf_1 (by rw [c17]; decide) (by rw [c17]; decide) (off := 232) (by rw [c17]; rfl) (by decide) ?_
    refine lv_bipush (v := 116) hx hb dX14_wordOf_233 lb_116 ?_
    refine lv_bipush (v := 104) hx hb dX14_wordOf_235 lb_104 ?_
    refine lv_bipush (v := 114) hx hb dX14_wordOf_237 lb_114 ?_
    refine lv_bipush (v := 111) hx hb dX14_wordOf_239 lb_111 ?_
    refine lv_bipush (v := 119) hx hb dX14_wordOf_241 lb_119 ?_
    obtain ⟨rr18, hrr18, hf⟩ := bind_s hf
    refine g0_cS (rm := (0, 0)) (As := [.int (116 : Int32), .int (104 : Int32), .int (114 : Int32), .int (111 : Int32), .int (119 : Int32)]) (rest := []) ⟨hx, hb, hml, hown, hts⟩ hG hR hS (m14_spelt l G K I J X A B Q (116 : Int32) (104 : Int32) (114 : Int32) (111 : Int32) (119 : Int32) rr18 hrr18) (cwS 5 hts gi_X14_198 rfl rfl rfl hd_X14_spelt ⟨Nat.le_of_ble_eq_true rfl, Nat.le_of_ble_eq_true rfl⟩) rfl hl.1 (Nat.le_of_ble_eq_true rfl) dX14_wordOf_243 ⟨Nat.le_refl _, Nat.le_refl _⟩ rfl (fun H locs hR hS => ?_)
    obtain rfl := some_i hf
    exact hend _ _ _ _ dX14_wordOf_246 hR hS
  have hf := ite_f c17 hf
  by_cases c19 : p1 = 9
  · have hf := ite_t c19 hf
    refine lv_tableIn (tgt := 247) hx hb dX14_wordOf_1 (by rw [c19]; decide) (by rw [c19]; decide) (off := 246) (by rw [c19]; rfl) (by decide) ?_
    refine lv_bipush (v := 119) hx hb dX14_wordOf_247 lb_119 ?_
    refine lv_bipush (v := 105) hx hb dX14_wordOf_249 lb_105 ?_
    refine lv_bipush (v := 110) hx hb dX14_wordOf_251 lb_110 ?_
    refine lv_bipush (v := 100) hx hb dX14_wordOf_253 lb_100 ?_
    refine lv_iconst (v := 0) hx hb dX14_wordOf_255 li_0 ?_
    obtain ⟨rr20, hrr20, hf⟩ := bind_s hf
    refine g0_cS (rm := (0, 0)) (As := [.int (119 : Int32), .int (105 : Int32), .int (110 : Int32), .int (100 : Int32), .int (0 : Int32)]) (rest := []) ⟨hx, hb, hml, hown, hts⟩ hG hR hS (m14_spelt l G K I J X A B Q (119 : Int32) (105 : Int32) (110 : Int32) (100 : Int32) (0 : Int32) rr20 hrr20) (cwS 5 hts gi_X14_198 rfl rfl rfl hd_X14_spelt ⟨Nat.le_of_ble_eq_true rfl, Nat.le_of_ble_eq_true rfl⟩) rfl hl.1 (Nat.le_of_ble_eq_true rfl) dX14_wordOf_256 ⟨Nat.le_refl _, Nat.le_refl _⟩ rfl (fun H locs hR hS => ?_)
    obtain rfl := some_i hf
    exact hend _ _ _ _ dX14_wordOf_259 hR hS
  have hf := ite_f c19 hf
  by_cases c21 : p1 = 10
  · have hf := ite_t c21 hf
    refine lv_tableIn (tgt := 260) hx hb dX14_wordOf_1 (by rw [c21]; decide) (by rw [c21]; decide) (off := 259) (by rw [c21]; rfl) (by decide) ?_
    refine lv_bipush (v := 110) hx hb dX14_wordOf_260 lb_110 ?_
    refine lv_bipush (v := 111) hx hb dX14_wordOf_262 lb_111 ?_
    refine lv_bipush (v := 114) hx hb dX14_wordOf_264 lb_114 ?_
    refine lv_bipush (v := 116) hx hb dX14_wordOf_266 lb_116 ?_
    refine lv_bipush (v := 104) hx hb dX14_wordOf_268 lb_104 ?_
    obtain ⟨rr22, hrr22, hf⟩ := bind_s hf
    refine g0_cS (rm := (0, 0)) (As := [.int (110 : Int32), .int (111 : Int32), .int (114 : Int32), .int (116 : Int32), .int (104 : Int32)]) (rest := []) ⟨hx, hb, hml, hown, hts⟩ hG hR hS (m14_spelt l G K I J X A B Q (110 : Int32) (111 : Int32) (114 : Int32) (116 : Int32) (104 : Int32) rr22 hrr22) (cwS 5 hts gi_X14_198 rfl rfl rfl hd_X14_spelt ⟨Nat.le_of_ble_eq_true rfl, Nat.le_of_ble_eq_true rfl⟩) rfl hl.1 (Nat.le_of_ble_eq_true rfl) dX14_wordOf_270 ⟨Nat.le_refl _, Nat.le_refl _⟩ rfl (fun H locs hR hS => ?_)
    obtain rfl := some_i hf
    exact hend _ _ _ _ dX14_wordOf_273 hR hS
  have hf := ite_f c21 hf
  by_cases c23 : p1 = 11
  · have hf := ite_t c23 hf
    refine lv_tableIn (tgt := 274) hx hb dX14_wordOf_1 (by rw [c23]; decide) (by rw [c23]; decide) (off := 273) (by rw [c23]; rfl) (by decide) ?_
    refine lv_bipush (v := 101) hx hb dX14_wordOf_274 lb_101 ?_
    refine lv_bipush (v := 97) hx hb dX14_wordOf_276 lb_97 ?_
    refine lv_bipush (v := 115) hx hb dX14_wordOf_278 lb_115 ?_
    refine lv_bipush (v := 116) hx hb dX14_wordOf_280 lb_116 ?_
    refine lv_iconst (v := 0) hx hb dX14_wordOf_282 li_0 ?_
    obtain ⟨rr24, hrr24, hf⟩ := bind_s hf
    refine g0_cS (rm := (0, 0)) (As := [.int (101 : Int32), .int (97 : Int32), .int (115 : Int32), .int (116 : Int32), .int (0 : Int32)]) (rest := []) ⟨hx, hb, hml, hown, hts⟩ hG hR hS (m14_spelt l G K I J X A B Q (101 : Int32) (97 : Int32) (115 : Int32) (116 : Int32) (0 : Int32) rr24 hrr24) (cwS 5 hts gi_X14_198 rfl rfl rfl hd_X14_spelt ⟨Nat.le_of_ble_eq_true rfl, Nat.le_of_ble_eq_true rfl⟩) rfl hl.1 (Nat.le_of_ble_eq_true rfl) dX14_wordOf_283 ⟨Nat.le_refl _, Nat.le_refl _⟩ rfl (fun H locs hR hS => ?_)
    obtain rfl := some_i hf
    exact hend _ _ _ _ dX14_wordOf_286 hR hS
  have hf := ite_f c23 hf
  by_cases c25 : p1 = 12
  · have hf := ite_t c25 hf
    refine lv_tableIn (tgt := 287) hx hb dX14_wordOf_1 (by rw [c25]; decide) (by rw [c25]; decide) (off := 286) (by rw [c25]; rfl) (by decide) ?_
    refine lv_bipush (v := 115) hx hb dX14_wordOf_287 lb_115 ?_
    refine lv_bipush (v := 111) hx hb dX14_wordOf_289 lb_111 ?_
    refine lv_bipush (v := 117) hx hb dX14_wordOf_291 lb_117 ?_
    refine lv_bipush (v := 116) hx hb dX14_wordOf_293 lb_116 ?_
    refine lv_bipush (v := 104) hx hb dX14_wordOf_295 lb_104 ?_
    obtain ⟨rr26, hrr26, hf⟩ := bind_s hf
    refine g0_cS (rm := (0, 0)) (As := [.int (115 : Int32), .int (111 : Int32), .int (117 : Int32), .int (116 : Int32), .int (104 : Int32)]) (rest := []) ⟨hx, hb, hml, hown, hts⟩ hG hR hS (m14_spelt l G K I J X A B Q (115 : Int32) (111 : Int32) (117 : Int32) (116 : Int32) (104 : Int32) rr26 hrr26) (cwS 5 hts gi_X14_198 rfl rfl rfl hd_X14_spelt ⟨Nat.le_of_ble_eq_true rfl, Nat.le_of_ble_eq_true rfl⟩) rfl hl.1 (Nat.le_of_ble_eq_true rfl) dX14_wordOf_297 ⟨Nat.le_refl _, Nat.le_refl _⟩ rfl (fun H locs hR hS => ?_)
    obtain rfl := some_i hf
    exact hend _ _ _ _ dX14_wordOf_300 hR hS
  have hf := ite_f c25 hf
  by_cases c27 : p1 = 13
  · have hf := ite_t c27 hf
    refine lv_tableIn (tgt := 301) hx hb dX14_wordOf_1 (by rw [c27]; decide) (by rw [c27]; decide) (off := 300) (by rw [c27]; rfl) (by decide) ?_
    refine lv_bipush (v := 119) hx hb dX14_wordOf_301 lb_119 ?_
    refine lv_bipush (v := 101) hx hb dX14_wordOf_303 lb_101 ?_
    refine lv_bipush (v := 115) hx hb dX14_wordOf_305 lb_115 ?_
    refine lv_bipush (v := 116) hx hb dX14_wordOf_307 lb_116 ?_
    refine lv_iconst (v := 0) hx hb dX14_wordOf_309 li_0 ?_
    obtain ⟨rr28, hrr28, hf⟩ := bind_s hf
    refine g0_cS (rm := (0, 0)) (As := [.int (119 : Int32), .int (101 : Int32), .int (115 : Int32), .int (116 : Int32), .int (0 : Int32)]) (rest := []) ⟨hx, hb, hml, hown, hts⟩ hG hR hS (m14_spelt l G K I J X A B Q (119 : Int32) (101 : Int32) (115 : Int32) (116 : Int32) (0 : Int32) rr28 hrr28) (cwS 5 hts gi_X14_198 rfl rfl rfl hd_X14_spelt ⟨Nat.le_of_ble_eq_true rfl, Nat.le_of_ble_eq_true rfl⟩) rfl hl.1 (Nat.le_of_ble_eq_true rfl) dX14_wordOf_310 ⟨Nat.le_refl _, Nat.le_refl _⟩ rfl (fun H locs hR hS => ?_)
    obtain rfl := some_i hf
    exact hend _ _ _ _ dX14_wordOf_313 hR hS
  have hf := ite_f c27 hf
  by_cases c29 : p1 = 14
  · have hf := ite_t c29 hf
    refine lv_tableIn (tgt := 314) hx hb dX14_wordOf_1 (by rw [c29]; decide) (by rw [c29]; decide) (off := 313) (by rw [c29]; rfl) (by decide) ?_
    refine lv_bipush (v := 97) hx hb dX14_wordOf_314 lb_97 ?_
    refine lv_bipush (v := 116) hx hb dX14_wordOf_316 lb_116 ?_
    refine lv_iconst (v := 0) hx hb dX14_wordOf_318 li_0 ?_
    refine lv_iconst (v := 0) hx hb dX14_wordOf_319 li_0 ?_
    refine lv_iconst (v := 0) hx hb dX14_wordOf_320 li_0 ?_
    obtain ⟨rr30, hrr30, hf⟩ := bind_s hf
    refine g0_cS (rm := (0, 0)) (As := [.int (97 : Int32), .int (116 : Int32), .int (0 : Int32), .int (0 : Int32), .int (0 : Int32)]) (rest := []) ⟨hx, hb, hml, hown, hts⟩ hG hR hS (m14_spelt l G K I J X A B Q (97 : Int32) (116 : Int32) (0 : Int32) (0 : Int32) (0 : Int32) rr30 hrr30) (cwS 5 hts gi_X14_198 rfl rfl rfl hd_X14_spelt ⟨Nat.le_of_ble_eq_true rfl, Nat.le_of_ble_eq_true rfl⟩) rfl hl.1 (Nat.le_of_ble_eq_true rfl) dX14_wordOf_321 ⟨Nat.le_refl _, Nat.le_refl _⟩ rfl (fun H locs hR hS => ?_)
    obtain rfl := some_i hf
    exact hend _ _ _ _ dX14_wordOf_324 hR hS
  have hf := ite_f c29 hf
  by_cases c31 : p1 = 15
  · have hf := ite_t c31 hf
    refine lv_tableIn (tgt := 325) hx hb dX14_wordOf_1 (by rw [c31]; decide) (by rw [c31]; decide) (off := 324) (by rw [c31]; rfl) (by decide) ?_
    refine lv_bipush (v := 114) hx hb dX14_wordOf_325 lb_114 ?_
    refine lv_bipush (v := 111) hx hb dX14_wordOf_327 lb_111 ?_
    refine lv_bipush (v := 119) hx hb dX14_wordOf_329 lb_119 ?_
    refine lv_iconst (v := 0) hx hb dX14_wordOf_331 li_0 ?_
    refine lv_iconst (v := 0) hx hb dX14_wordOf_332 li_0 ?_
    obtain ⟨rr32, hrr32, hf⟩ := bind_s hf
    refine g0_cS (rm := (0, 0)) (As := [.int (114 : Int32), .int (111 : Int32), .int (119 : Int32), .int (0 : Int32), .int (0 : Int32)]) (rest := []) ⟨hx, hb, hml, hown, hts⟩ hG hR hS (m14_spelt l G K I J X A B Q (114 : Int32) (111 : Int32) (119 : Int32) (0 : Int32) (0 : Int32) rr32 hrr32) (cwS 5 hts gi_X14_198 rfl rfl rfl hd_X14_spelt ⟨Nat.le_of_ble_eq_true rfl, Nat.le_of_ble_eq_true rfl⟩) rfl hl.1 (Nat.le_of_ble_eq_true rfl) dX14_wordOf_333 ⟨Nat.le_refl _, Nat.le_refl _⟩ rfl (fun H locs hR hS => ?_)
    obtain rfl := some_i hf
    exact hend _ _ _ _ dX14_wordOf_336 hR hS
  have hf := ite_f c31 hf
  by_cases c33 : p1 = 16
  · have hf := ite_t c33 hf
    refine lv_tableIn (tgt := 337) hx hb dX14_wordOf_1 (by rw [c33]; decide) (by rw [c33]; decide) (off := 336) (by rw [c33]; rfl) (by decide) ?_
    refine lv_bipush (v := 114) hx hb dX14_wordOf_337 lb_114 ?_
    refine lv_bipush (v := 117) hx hb dX14_wordOf_339 lb_117 ?_
    refine lv_bipush (v := 110) hx hb dX14_wordOf_341 lb_110 ?_
    refine lv_iconst (v := 0) hx hb dX14_wordOf_343 li_0 ?_
    refine lv_iconst (v := 0) hx hb dX14_wordOf_344 li_0 ?_
    obtain ⟨rr34, hrr34, hf⟩ := bind_s hf
    refine g0_cS (rm := (0, 0)) (As := [.int (114 : Int32), .int (117 : Int32), .int (110 : Int32), .int (0 : Int32), .int (0 : Int32)]) (rest := []) ⟨hx, hb, hml, hown, hts⟩ hG hR hS (m14_spelt l G K I J X A B Q (114 : Int32) (117 : Int32) (110 : Int32) (0 : Int32) (0 : Int32) rr34 hrr34) (cwS 5 hts gi_X14_198 rfl rfl rfl hd_X14_spelt ⟨Nat.le_of_ble_eq_true rfl, Nat.le_of_ble_eq_true rfl⟩) rfl hl.1 (Nat.le_of_ble_eq_true rfl) dX14_wordOf_345 ⟨Nat.le_refl _, Nat.le_refl _⟩ rfl (fun H locs hR hS => ?_)
    obtain rfl := some_i hf
    exact hend _ _ _ _ dX14_wordOf_348 hR hS
  have hf := ite_f c33 hf
  by_cases c35 : p1 = 17
  · have hf := ite_t c35 hf
    refine lv_tableIn (tgt := 349) hx hb dX14_wordOf_1 (by rw [c35]; decide) (by rw [c35]; decide) (off := 348) (by rw [c35]; rfl) (by decide) ?_
    refine lv_bipush (v := 115) hx hb dX14_wordOf_349 lb_115 ?_
    refine lv_bipush (v := 116) hx hb dX14_wordOf_351 lb_116 ?_
    refine lv_bipush (v := 111) hx hb dX14_wordOf_353 lb_111 ?_
    refine lv_bipush (v := 112) hx hb dX14_wordOf_355 lb_112 ?_
    refine lv_iconst (v := 0) hx hb dX14_wordOf_357 li_0 ?_
    obtain ⟨rr36, hrr36, hf⟩ := bind_s hf
    refine g0_cS (rm := (0, 0)) (As := [.int (115 : Int32), .int (116 : Int32), .int (111 : Int32), .int (112 : Int32), .int (0 : Int32)]) (rest := []) ⟨hx, hb, hml, hown, hts⟩ hG hR hS (m14_spelt l G K I J X A B Q (115 : Int32) (116 : Int32) (111 : Int32) (112 : Int32) (0 : Int32) rr36 hrr36) (cwS 5 hts gi_X14_198 rfl rfl rfl hd_X14_spelt ⟨Nat.le_of_ble_eq_true rfl, Nat.le_of_ble_eq_true rfl⟩) rfl hl.1 (Nat.le_of_ble_eq_true rfl) dX14_wordOf_358 ⟨Nat.le_refl _, Nat.le_refl _⟩ rfl (fun H locs hR hS => ?_)
    obtain rfl := some_i hf
    exact hend _ _ _ _ dX14_wordOf_361 hR hS
  have hf := ite_f c35 hf
  by_cases c37 : p1 = 18
  · have hf := ite_t c37 hf
    refine lv_tableIn (tgt := 362) hx hb dX14_wordOf_1 (by rw [c37]; decide) (by rw [c37]; decide) (off := 361) (by rw [c37]; rfl) (by decide) ?_
    refine lv_bipush (v := 97) hx hb dX14_wordOf_362 lb_97 ?_
    refine lv_bipush (v := 105) hx hb dX14_wordOf_364 lb_105 ?_
    refine lv_bipush (v := 109) hx hb dX14_wordOf_366 lb_109 ?_
    refine lv_iconst (v := 0) hx hb dX14_wordOf_368 li_0 ?_
    refine lv_iconst (v := 0) hx hb dX14_wordOf_369 li_0 ?_
    obtain ⟨rr38, hrr38, hf⟩ := bind_s hf
    refine g0_cS (rm := (0, 0)) (As := [.int (97 : Int32), .int (105 : Int32), .int (109 : Int32), .int (0 : Int32), .int (0 : Int32)]) (rest := []) ⟨hx, hb, hml, hown, hts⟩ hG hR hS (m14_spelt l G K I J X A B Q (97 : Int32) (105 : Int32) (109 : Int32) (0 : Int32) (0 : Int32) rr38 hrr38) (cwS 5 hts gi_X14_198 rfl rfl rfl hd_X14_spelt ⟨Nat.le_of_ble_eq_true rfl, Nat.le_of_ble_eq_true rfl⟩) rfl hl.1 (Nat.le_of_ble_eq_true rfl) dX14_wordOf_370 ⟨Nat.le_refl _, Nat.le_refl _⟩ rfl (fun H locs hR hS => ?_)
    obtain rfl := some_i hf
    exact hend _ _ _ _ dX14_wordOf_373 hR hS
  have hf := ite_f c37 hf
  by_cases c39 : p1 = 19
  · have hf := ite_t c39 hf
    refine lv_tableIn (tgt := 374) hx hb dX14_wordOf_1 (by rw [c39]; decide) (by rw [c39]; decide) (off := 373) (by rw [c39]; rfl) (by decide) ?_
    refine lv_bipush (v := 103) hx hb dX14_wordOf_374 lb_103 ?_
    refine lv_bipush (v := 105) hx hb dX14_wordOf_376 lb_105 ?_
    refine lv_bipush (v := 118) hx hb dX14_wordOf_378 lb_118 ?_
    refine lv_bipush (v := 101) hx hb dX14_wordOf_380 lb_101 ?_
    refine lv_iconst (v := 0) hx hb dX14_wordOf_382 li_0 ?_
    obtain ⟨rr40, hrr40, hf⟩ := bind_s hf
    refine g0_cS (rm := (0, 0)) (As := [.int (103 : Int32), .int (105 : Int32), .int (118 : Int32), .int (101 : Int32), .int (0 : Int32)]) (rest := []) ⟨hx, hb, hml, hown, hts⟩ hG hR hS (m14_spelt l G K I J X A B Q (103 : Int32) (105 : Int32) (118 : Int32) (101 : Int32) (0 : Int32) rr40 hrr40) (cwS 5 hts gi_X14_198 rfl rfl rfl hd_X14_spelt ⟨Nat.le_of_ble_eq_true rfl, Nat.le_of_ble_eq_true rfl⟩) rfl hl.1 (Nat.le_of_ble_eq_true rfl) dX14_wordOf_383 ⟨Nat.le_refl _, Nat.le_refl _⟩ rfl (fun H locs hR hS => ?_)
    obtain rfl := some_i hf
    exact hend _ _ _ _ dX14_wordOf_386 hR hS
  have hf := ite_f c39 hf
  by_cases c41 : p1 = 20
  · have hf := ite_t c41 hf
    refine lv_tableIn (tgt := 387) hx hb dX14_wordOf_1 (by rw [c41]; decide) (by rw [c41]; decide) (off := 386) (by rw [c41]; rfl) (by decide) ?_
    refine lv_bipush (v := 111) hx hb dX14_wordOf_387 lb_111 ?_
    refine lv_bipush (v := 114) hx hb dX14_wordOf_389 lb_114 ?_
    refine lv_iconst (v := 0) hx hb dX14_wordOf_391 li_0 ?_
    refine lv_iconst (v := 0) hx hb dX14_wordOf_392 li_0 ?_
    refine lv_iconst (v := 0) hx hb dX14_wordOf_393 li_0 ?_
    obtain ⟨rr42, hrr42, hf⟩ := bind_s hf
    refine g0_cS (rm := (0, 0)) (As := [.int (111 : Int32), .int (114 : Int32), .int (0 : Int32), .int (0 : Int32), .int (0 : Int32)]) (rest := []) ⟨hx, hb, hml, hown, hts⟩ hG hR hS (m14_spelt l G K I J X A B Q (111 : Int32) (114 : Int32) (0 : Int32) (0 : Int32) (0 : Int32) rr42 hrr42) (cwS 5 hts gi_X14_198 rfl rfl rfl hd_X14_spelt ⟨Nat.le_of_ble_eq_true rfl, Nat.le_of_ble_eq_true rfl⟩) rfl hl.1 (Nat.le_of_ble_eq_true rfl) dX14_wordOf_394 ⟨Nat.le_refl _, Nat.le_refl _⟩ rfl (fun H locs hR hS => ?_)
    obtain rfl := some_i hf
    exact hend _ _ _ _ dX14_wordOf_397 hR hS
  have hf := ite_f c41 hf
  by_cases c43 : p1 = 21
  · have hf := ite_t c43 hf
    refine lv_tableIn (tgt := 398) hx hb dX14_wordOf_1 (by rw [c43]; decide) (by rw [c43]; decide) (off := 397) (by rw [c43]; rfl) (by decide) ?_
    refine lv_bipush (v := 97) hx hb dX14_wordOf_398 lb_97 ?_
    refine lv_bipush (v := 110) hx hb dX14_wordOf_400 lb_110 ?_
    refine lv_bipush (v := 100) hx hb dX14_wordOf_402 lb_100 ?_
    refine lv_iconst (v := 0) hx hb dX14_wordOf_404 li_0 ?_
    refine lv_iconst (v := 0) hx hb dX14_wordOf_405 li_0 ?_
    obtain ⟨rr44, hrr44, hf⟩ := bind_s hf
    refine g0_cS (rm := (0, 0)) (As := [.int (97 : Int32), .int (110 : Int32), .int (100 : Int32), .int (0 : Int32), .int (0 : Int32)]) (rest := []) ⟨hx, hb, hml, hown, hts⟩ hG hR hS (m14_spelt l G K I J X A B Q (97 : Int32) (110 : Int32) (100 : Int32) (0 : Int32) (0 : Int32) rr44 hrr44) (cwS 5 hts gi_X14_198 rfl rfl rfl hd_X14_spelt ⟨Nat.le_of_ble_eq_true rfl, Nat.le_of_ble_eq_true rfl⟩) rfl hl.1 (Nat.le_of_ble_eq_true rfl) dX14_wordOf_406 ⟨Nat.le_refl _, Nat.le_refl _⟩ rfl (fun H locs hR hS => ?_)
    obtain rfl := some_i hf
    exact hend _ _ _ _ dX14_wordOf_409 hR hS
  have hf := ite_f c43 hf
  by_cases c45 : p1 = 22
  · have hf := ite_t c45 hf
    refine lv_tableIn (tgt := 410) hx hb dX14_wordOf_1 (by rw [c45]; decide) (by rw [c45]; decide) (off := 409) (by rw [c45]; rfl) (by decide) ?_
    refine lv_bipush (v := 110) hx hb dX14_wordOf_410 lb_110 ?_
    refine lv_bipush (v := 111) hx hb dX14_wordOf_412 lb_111 ?_
    refine lv_bipush (v := 116) hx hb dX14_wordOf_414 lb_116 ?_
    refine lv_iconst (v := 0) hx hb dX14_wordOf_416 li_0 ?_
    refine lv_iconst (v := 0) hx hb dX14_wordOf_417 li_0 ?_
    obtain ⟨rr46, hrr46, hf⟩ := bind_s hf
    refine g0_cS (rm := (0, 0)) (As := [.int (110 : Int32), .int (111 : Int32), .int (116 : Int32), .int (0 : Int32), .int (0 : Int32)]) (rest := []) ⟨hx, hb, hml, hown, hts⟩ hG hR hS (m14_spelt l G K I J X A B Q (110 : Int32) (111 : Int32) (116 : Int32) (0 : Int32) (0 : Int32) rr46 hrr46) (cwS 5 hts gi_X14_198 rfl rfl rfl hd_X14_spelt ⟨Nat.le_of_ble_eq_true rfl, Nat.le_of_ble_eq_true rfl⟩) rfl hl.1 (Nat.le_of_ble_eq_true rfl) dX14_wordOf_418 ⟨Nat.le_refl _, Nat.le_refl _⟩ rfl (fun H locs hR hS => ?_)
    obtain rfl := some_i hf
    exact hend _ _ _ _ dX14_wordOf_421 hR hS
  have hf := ite_f c45 hf
  by_cases c47 : p1 = 23
  · have hf := ite_t c47 hf
    refine lv_tableIn (tgt := 422) hx hb dX14_wordOf_1 (by rw [c47]; decide) (by rw [c47]; decide) (off := 421) (by rw [c47]; rfl) (by decide) ?_
    refine lv_bipush (v := 111) hx hb dX14_wordOf_422 lb_111 ?_
    refine lv_bipush (v := 117) hx hb dX14_wordOf_424 lb_117 ?_
    refine lv_bipush (v := 116) hx hb dX14_wordOf_426 lb_116 ?_
    refine lv_iconst (v := 0) hx hb dX14_wordOf_428 li_0 ?_
    refine lv_iconst (v := 0) hx hb dX14_wordOf_429 li_0 ?_
    obtain ⟨rr48, hrr48, hf⟩ := bind_s hf
    refine g0_cS (rm := (0, 0)) (As := [.int (111 : Int32), .int (117 : Int32), .int (116 : Int32), .int (0 : Int32), .int (0 : Int32)]) (rest := []) ⟨hx, hb, hml, hown, hts⟩ hG hR hS (m14_spelt l G K I J X A B Q (111 : Int32) (117 : Int32) (116 : Int32) (0 : Int32) (0 : Int32) rr48 hrr48) (cwS 5 hts gi_X14_198 rfl rfl rfl hd_X14_spelt ⟨Nat.le_of_ble_eq_true rfl, Nat.le_of_ble_eq_true rfl⟩) rfl hl.1 (Nat.le_of_ble_eq_true rfl) dX14_wordOf_430 ⟨Nat.le_refl _, Nat.le_refl _⟩ rfl (fun H locs hR hS => ?_)
    obtain rfl := some_i hf
    exact hend _ _ _ _ dX14_wordOf_433 hR hS
  have hf := ite_f c47 hf
  by_cases c49 : p1 = 24
  · have hf := ite_t c49 hf
    refine lv_tableIn (tgt := 434) hx hb dX14_wordOf_1 (by rw [c49]; decide) (by rw [c49]; decide) (off := 433) (by rw [c49]; rfl) (by decide) ?_
    refine lv_bipush (v := 109) hx hb dX14_wordOf_434 lb_109 ?_
    refine lv_bipush (v := 105) hx hb dX14_wordOf_436 lb_105 ?_
    refine lv_bipush (v := 110) hx hb dX14_wordOf_438 lb_110 ?_
    refine lv_bipush (v := 117) hx hb dX14_wordOf_440 lb_117 ?_
    refine lv_bipush (v := 116) hx hb dX14_wordOf_442 lb_116 ?_
    obtain ⟨rr50, hrr50, hf⟩ := bind_s hf
    refine g0_cS (rm := (0, 0)) (As := [.int (109 : Int32), .int (105 : Int32), .int (110 : Int32), .int (117 : Int32), .int (116 : Int32)]) (rest := []) ⟨hx, hb, hml, hown, hts⟩ hG hR hS (m14_spelt l G K I J X A B Q (109 : Int32) (105 : Int32) (110 : Int32) (117 : Int32) (116 : Int32) rr50 hrr50) (cwS 5 hts gi_X14_198 rfl rfl rfl hd_X14_spelt ⟨Nat.le_of_ble_eq_true rfl, Nat.le_of_ble_eq_true rfl⟩) rfl hl.1 (Nat.le_of_ble_eq_true rfl) dX14_wordOf_444 ⟨Nat.le_refl _, Nat.le_refl _⟩ rfl (fun H locs hR hS => ?_)
    refine lv_bipush (v := 101) hx hb dX14_wordOf_447 lb_101 ?_
    obtain ⟨rr51, hrr51, hf⟩ := bind_s hf
    refine g0_cS (rm := (0, 0)) (As := [.long rr50, .int (101 : Int32)]) (rest := []) ⟨hx, hb, hml, hown, hts⟩ hG hR hS (m14_on l G K I J X A B Q rr50 (101 : Int32) rr51 hrr51) (cwS 2 hts gi_X14_202 rfl rfl rfl hd_X14_on ⟨Nat.le_of_ble_eq_true rfl, Nat.le_of_ble_eq_true rfl⟩) rfl hl.1 (Nat.le_of_ble_eq_true rfl) dX14_wordOf_449 ⟨Nat.le_refl _, Nat.le_refl _⟩ rfl (fun H locs hR hS => ?_)
    obtain rfl := some_i hf
    exact hend _ _ _ _ dX14_wordOf_452 hR hS
  have hf := ite_f c49 hf
  by_cases c52 : p1 = 25
  · have hf := ite_t c52 hf
    refine lv_tableIn (tgt := 453) hx hb dX14_wordOf_1 (by rw [c52]; decide) (by rw [c52]; decide) (off := 452) (by rw [c52]; rfl) (by decide) ?_
    refine lv_bipush (v := 116) hx hb dX14_wordOf_453 lb_116 ?_
    refine lv_bipush (v := 104) hx hb dX14_wordOf_455 lb_104 ?_
    refine lv_bipush (v := 114) hx hb dX14_wordOf_457 lb_114 ?_
    refine lv_bipush (v := 111) hx hb dX14_wordOf_459 lb_111 ?_
    refine lv_bipush (v := 119) hx hb dX14_wordOf_461 lb_119 ?_
    obtain ⟨rr53, hrr53, hf⟩ := bind_s hf
    refine g0_cS (rm := (0, 0)) (As := [.int (116 : Int32), .int (104 : Int32), .int (114 : Int32), .int (111 : Int32), .int (119 : Int32)]) (rest := []) ⟨hx, hb, hml, hown, hts⟩ hG hR hS (m14_spelt l G K I J X A B Q (116 : Int32) (104 : Int32) (114 : Int32) (111 : Int32) (119 : Int32) rr53 hrr53) (cwS 5 hts gi_X14_198 rfl rfl rfl hd_X14_spelt ⟨Nat.le_of_ble_eq_true rfl, Nat.le_of_ble_eq_true rfl⟩) rfl hl.1 (Nat.le_of_ble_eq_true rfl) dX14_wordOf_463 ⟨Nat.le_refl _, Nat.le_refl _⟩ rfl (fun H locs hR hS => ?_)
    refine lv_bipush (v := 110) hx hb dX14_wordOf_466 lb_110 ?_
    obtain ⟨rr54, hrr54, hf⟩ := bind_s hf
    refine g0_cS (rm := (0, 0)) (As := [.long rr53, .int (110 : Int32)]) (rest := []) ⟨hx, hb, hml, hown, hts⟩ hG hR hS (m14_on l G K I J X A B Q rr53 (110 : Int32) rr54 hrr54) (cwS 2 hts gi_X14_202 rfl rfl rfl hd_X14_on ⟨Nat.le_of_ble_eq_true rfl, Nat.le_of_ble_eq_true rfl⟩) rfl hl.1 (Nat.le_of_ble_eq_true rfl) dX14_wordOf_468 ⟨Nat.le_refl _, Nat.le_refl _⟩ rfl (fun H locs hR hS => ?_)
    obtain rfl := some_i hf
    exact hend _ _ _ _ dX14_wordOf_471 hR hS
  have hf := ite_f c52 hf
  by_cases c55 : p1 = 26
  · have hf := ite_t c55 hf
    refine lv_tableIn (tgt := 472) hx hb dX14_wordOf_1 (by rw [c55]; decide) (by rw [c55]; decide) (off := 471) (by rw [c55]; rfl) (by decide) ?_
    refine lv_bipush (v := 108) hx hb dX14_wordOf_472 lb_108 ?_
    refine lv_bipush (v := 111) hx hb dX14_wordOf_474 lb_111 ?_
    refine lv_bipush (v := 115) hx hb dX14_wordOf_476 lb_115 ?_
    refine lv_bipush (v := 116) hx hb dX14_wordOf_478 lb_116 ?_
    refine lv_iconst (v := 0) hx hb dX14_wordOf_480 li_0 ?_
    obtain ⟨rr56, hrr56, hf⟩ := bind_s hf
    refine g0_cS (rm := (0, 0)) (As := [.int (108 : Int32), .int (111 : Int32), .int (115 : Int32), .int (116 : Int32), .int (0 : Int32)]) (rest := []) ⟨hx, hb, hml, hown, hts⟩ hG hR hS (m14_spelt l G K I J X A B Q (108 : Int32) (111 : Int32) (115 : Int32) (116 : Int32) (0 : Int32) rr56 hrr56) (cwS 5 hts gi_X14_198 rfl rfl rfl hd_X14_spelt ⟨Nat.le_of_ble_eq_true rfl, Nat.le_of_ble_eq_true rfl⟩) rfl hl.1 (Nat.le_of_ble_eq_true rfl) dX14_wordOf_481 ⟨Nat.le_refl _, Nat.le_refl _⟩ rfl (fun H locs hR hS => ?_)
    obtain rfl := some_i hf
    exact hend _ _ _ _ dX14_wordOf_484 hR hS
  have hf := ite_f c55 hf
  by_cases c57 : p1 = 27
  · have hf := ite_t c57 hf
    refine lv_tableIn (tgt := 485) hx hb dX14_wordOf_1 (by rw [c57]; decide) (by rw [c57]; decide) (off := 484) (by rw [c57]; rfl) (by decide) ?_
    refine lv_bipush (v := 98) hx hb dX14_wordOf_485 lb_98 ?_
    refine lv_bipush (v := 117) hx hb dX14_wordOf_487 lb_117 ?_
    refine lv_bipush (v := 114) hx hb dX14_wordOf_489 lb_114 ?_
    refine lv_bipush (v := 110) hx hb dX14_wordOf_491 lb_110 ?_
    refine lv_bipush (v := 115) hx hb dX14_wordOf_493 lb_115 ?_
    obtain ⟨rr58, hrr58, hf⟩ := bind_s hf
    refine g0_cS (rm := (0, 0)) (As := [.int (98 : Int32), .int (117 : Int32), .int (114 : Int32), .int (110 : Int32), .int (115 : Int32)]) (rest := []) ⟨hx, hb, hml, hown, hts⟩ hG hR hS (m14_spelt l G K I J X A B Q (98 : Int32) (117 : Int32) (114 : Int32) (110 : Int32) (115 : Int32) rr58 hrr58) (cwS 5 hts gi_X14_198 rfl rfl rfl hd_X14_spelt ⟨Nat.le_of_ble_eq_true rfl, Nat.le_of_ble_eq_true rfl⟩) rfl hl.1 (Nat.le_of_ble_eq_true rfl) dX14_wordOf_495 ⟨Nat.le_refl _, Nat.le_refl _⟩ rfl (fun H locs hR hS => ?_)
    obtain rfl := some_i hf
    exact hend _ _ _ _ dX14_wordOf_498 hR hS
  have hf := ite_f c57 hf
  have hto := tb_out_0_27 p1 c1 c3 c5 c7 c9 c11 c13 c15 c17 c19 c21 c23 c25 c27 c29 c31 c33 c35 c37 c39 c41 c43 c45 c47 c49 c52 c55 c57
  refine lv_tableOut (tgt := 499) hx hb dX14_wordOf_1 hto (by decide) ?_
  refine lv_bipush (v := 119) hx hb dX14_wordOf_499 lb_119 ?_
  refine lv_bipush (v := 97) hx hb dX14_wordOf_501 lb_97 ?_
  refine lv_bipush (v := 116) hx hb dX14_wordOf_503 lb_116 ?_
  refine lv_bipush (v := 101) hx hb dX14_wordOf_505 lb_101 ?_
  refine lv_bipush (v := 114) hx hb dX14_wordOf_507 lb_114 ?_
  obtain ⟨rr59, hrr59, hf⟩ := bind_s hf
  refine g0_cS (rm := (0, 0)) (As := [.int (119 : Int32), .int (97 : Int32), .int (116 : Int32), .int (101 : Int32), .int (114 : Int32)]) (rest := []) ⟨hx, hb, hml, hown, hts⟩ hG hR hS (m14_spelt l G K I J X A B Q (119 : Int32) (97 : Int32) (116 : Int32) (101 : Int32) (114 : Int32) rr59 hrr59) (cwS 5 hts gi_X14_198 rfl rfl rfl hd_X14_spelt ⟨Nat.le_of_ble_eq_true rfl, Nat.le_of_ble_eq_true rfl⟩) rfl hl.1 (Nat.le_of_ble_eq_true rfl) dX14_wordOf_509 ⟨Nat.le_refl _, Nat.le_refl _⟩ rfl (fun H locs hR hS => ?_)
  obtain rfl := some_i hf
  exact hend _ _ _ _ dX14_wordOf_512 hR hS
noncomputable def f14_isName_e2_0 (x2_0 : Int32) : Option (Int32) :=
  some x2_0

noncomputable def f14_isName_s2 (j_word : Int64) (w2_1 : Int32) : Option ((Int32) ⊕ (Int32)) :=
  if (28 : Int32) < w2_1 then
    some (.inr (1 : Int32))
  else
    (f14_wordOf w2_1).bind fun rr4 =>
    lt (lg_cmp j_word rr4) fun v5 =>
    if v5 = 0 then
      some (.inr (0 : Int32))
    else
      lt (w2_1 + (1 : Int32)) fun v7 =>
      some (.inl v7)

noncomputable def f14_isName (i_kind : Int32) (j_word : Int64) : Option (Int32) :=
  if i_kind = (2 : Int32) then
    (whl (fun (s2 : Int32) => f14_isName_s2 j_word s2) FU (0 : Int32)).bind fun rl2 =>
    f14_isName_e2_0 rl2
  else
    some (0 : Int32)
set_option maxHeartbeats 4000000 in
theorem m14_isName (l : Launch) (G : gG) (K : gK) (I : gI) (J : gJ) (X : gX) (A : gI) (B : gJ) (Q : gX) (o : Nat) (shM : Sh K X o 11 rows11)  (i_kind : Int32) (j_word : Int64) (e_i_kind : I 1107 o = i_kind) (e_j_word : J 1112 o = j_word) (out : Int32) (hf : f14_isName i_kind j_word = some out) : GMet l yX14_isName cX14_isName 2 (some .boolean) (2) (46) G [.ref o] K I J X A B Q (some (.int out)) K I J X A B Q 0 0 := by
  refine GMet.of (y := yX14_isName) rfl (Nat.le_of_ble_eq_true rfl) rfl ?_
  intro p e s m below meth c ls hx hb hr hml hlocks hts hown hname hG hR hl
  have hown : s.vm.findClass RX14 = some m.cls := hown
  have hR : RS G K I J X A B Q s.heap := hR.to rfl rfl rfl rfl rfl rfl
  have hS : va_S (gA G) s.heap s.heap [] := va_S.rf
  have hend : ∀ (pc : Nat) (H : Heap) (locs : List Loc) (ls : Array Slot), decode cX14_isName pc = .ok (.ireturn, 1) → narrow .boolean (.int out) = .int out → RS G K I J X A B Q H → va_S (gA G) s.heap H locs → W p l e ({ frames := 2, cells := 0, slots := 0, locals := 46 } : Room) s m ([.ref o] : List Value).toArray below meth c H locs 0 0 (MQ below (gQ G (some (.int out)) K I J X A B Q) ([.ref o] : List Value).toArray s 0 0 (gA G)) (F0 m pc ls [.int out]) := fun pc H locs ls hd hz hR hS => g_zret hx hb hr hlocks hz hG hR hS rfl hd
  generalize MQ below (gQ G (some (.int out)) K I J X A B Q) ([.ref o] : List Value).toArray s 0 0 (gA G) = Z at hend ⊢
  generalize ([.ref o] : List Value).toArray = args at hts hend ⊢
  unfold f14_isName at hf
  refine lv_aload_n hx hb dX14_isName_0 rfl (lv_at hl 0 rfl) ?_
  refine n_geti (v := i_kind) hx hb hts hown hG hR gFi_X14_170_11 shM.1 e_i_kind dX14_isName_1 ?_
  refine lv_iconst (v := 2) hx hb dX14_isName_4 li_2 ?_
  refine lv_icmp_eq (tgt := 10) hx hb dX14_isName_5 (by decide) (fun c1 => ?_) (fun c1 => ?_)
  · have hf := ite_t c1 hf
    refine lv_iconst (v := 0) hx hb dX14_isName_10 li_0 ?_
    refine lv_istore_n (lv' := [(1, .int (0 : Int32)), (0, .ref o)]) hx hb dX14_isName_11 rfl hl (by decide) rfl (fun ls hl => ?_)
    obtain ⟨rl2, hw2, hfo2⟩ := bind_s hf
    have hx2_0 : ∀ (x2_0 : Int32), f14_isName_e2_0 x2_0 = some out → ∀ (pc : Nat) (H : Heap) (locs : List Loc) (ls : Array Slot), decode cX14_isName pc = .ok (.ireturn, 1) → narrow .boolean (.int x2_0) = .int x2_0 → RS G K I J X A B Q H → va_S (gA G) s.heap H locs → W p l e ({ frames := 2, cells := 0, slots := 0, locals := 46 } : Room) s m args below meth c H locs 0 0 Z (F0 m pc ls [.int x2_0]) := by
      intro x2_0 hf pc H locs ls hd hz hR hS
      unfold f14_isName_e2_0 at hf
      obtain rfl := some_i hf
      exact hend _ _ _ _ hd hz hR hS
    refine whl_walk (P := fun (s2 : Int32) => ∀ (H : Heap) (locs : List Loc) (ls : Array Slot), RS G K I J X A B Q H → va_S (gA G) s.heap H locs → lv_has ls 2 [(0, .ref o), (1, .int s2)] → W p l e ({ frames := 2, cells := 0, slots := 0, locals := 46 } : Room) s m args below meth c H locs 0 0 Z (F0 m 12 ls [])) (r := rl2) ?_ FU _ hw2 _ _ _ hR hS (lv_sub hl [1, 0] rfl)
    clear hR hS hl hf
    intro s2 o2 hf hk2 H locs ls hR hS hl
    obtain ⟨w2_1, rfl⟩ : ∃ z, z = s2 := ⟨_, rfl⟩
    have hf : f14_isName_s2 j_word w2_1 = some o2 := hf
    have hR : RS G K I J X A B Q H := hR
    have hl : lv_has ls 2 [(0, .ref o), (1, .int w2_1)] := hl
    unfold f14_isName_s2 at hf
    refine lv_iload_n hx hb dX14_isName_12 rfl (lv_at hl 1 rfl) ?_
    refine lv_bipush (v := 28) hx hb dX14_isName_13 lb_28 ?_
    refine lv_icmp_gt (tgt := 38) hx hb dX14_isName_15 (by decide) (fun c3 => ?_) (fun c3 => ?_)
    · have hf := ite_t c3 hf
      refine lv_iconst (v := 1) hx hb dX14_isName_38 li_1 ?_
      obtain rfl := some_i hf
      replace hk2 : _ = rl2 := hk2
      subst hk2
      exact hx2_0 (1 : Int32) hfo2 _ _ _ _ dX14_isName_39 nz_1 hR hS
    · have hf := ite_f c3 hf
      refine lv_aload_n hx hb dX14_isName_18 rfl (lv_at hl 0 rfl) ?_
      refine n_getj (v := j_word) hx hb hts hown hG hR gFj_X14_183_11 shM.1 e_j_word dX14_isName_19 ?_
      refine lv_iload_n hx hb dX14_isName_22 rfl (lv_at hl 1 rfl) ?_
      obtain ⟨rr4, hrr4, hf⟩ := bind_s hf
      refine g0_cS (rm := (1, 26)) (As := [.int w2_1]) (rest := [.long j_word]) ⟨hx, hb, hml, hown, hts⟩ hG hR hS (m14_wordOf l G K I J X A B Q w2_1 rr4 hrr4) (cwS 1 hts gi_X14_206 rfl rfl rfl hd_X14_wordOf ⟨Nat.le_of_ble_eq_true rfl, Nat.le_of_ble_eq_true rfl⟩) rfl hl.1 (Nat.le_of_ble_eq_true rfl) dX14_isName_23 ⟨Nat.le_refl _, Nat.le_refl _⟩ rfl (fun H locs hR hS => ?_)
      obtain ⟨v5, ev5, hf⟩ := lt_some hf
      refine n_lcmp hx hb ev5 dX14_isName_26 ?_
      refine lv_if_ne (tgt := 32) hx hb dX14_isName_27 (by decide) (fun c6 => ?_) (fun c6 => ?_)
      · have hf := ite_f c6 hf
        obtain ⟨v7, ev7, hf⟩ := lt_some hf
        refine lv_iinc (k := 1) (v := v7) (lv' := [(1, .int v7), (0, .ref o)]) hx hb dX14_isName_32 hl rfl (by rw [ev7]; rfl) (by decide) rfl (fun ls hl => ?_)
        refine lv_goto (tgt := 12) hx hb dX14_isName_35 (by decide) ?_
        obtain rfl := some_i hf
        exact hk2 _ _ _ hR hS (lv_sub hl [1, 0] rfl)
      · have hf := ite_t c6 hf
        refine lv_iconst (v := 0) hx hb dX14_isName_30 li_0 ?_
        obtain rfl := some_i hf
        replace hk2 : _ = rl2 := hk2
        subst hk2
        exact hx2_0 (0 : Int32) hfo2 _ _ _ _ dX14_isName_31 nz_0 hR hS
  · have hf := ite_f c1 hf
    refine lv_iconst (v := 0) hx hb dX14_isName_8 li_0 ?_
    obtain rfl := some_i hf
    exact hend _ _ _ _ dX14_isName_9 nz_0 hR hS
noncomputable def f14_readNumber (p1 : Int32) (p2 : Int32) (i_size : Int32) (i_limit : Int32) (i_to : Int32) (i_from : Int32) (i_kind : Int32) (i_number : Int32) (i_sign : Int32) (i_fault : Int32) (i_at : Int32) (i_told : Int32) (j_word : Int64) (a_tape : Nat → Int32) : Option (Int32 × Int32 × Int32 × Int32 × Int32 × Int32 × Int32 × Int32 × Int32 × Int64) :=
  if i_kind = (3 : Int32) then
    (f14_isIn i_number p1 p2).bind fun rr2 =>
    if rr2 = 0 then
      (f14_bad (2 : Int32) i_from i_kind i_fault i_at).bind fun rr5 =>
      gd (rr5.1 &&& 1 = rr5.1) <|
      some (rr5.1, i_to, i_from, i_kind, i_number, i_sign, rr5.2.1, rr5.2.2, i_told, j_word)
    else
      (f14_go i_size i_limit i_to i_from i_kind i_number i_sign j_word a_tape).bind fun rr4 =>
      some ((1 : Int32), rr4.1, rr4.2.1, rr4.2.2.1, rr4.2.2.2.1, rr4.2.2.2.2.1, i_fault, i_at, i_number, rr4.2.2.2.2.2)
  else
    (f14_bad (1 : Int32) i_from i_kind i_fault i_at).bind fun rr6 =>
    gd (rr6.1 &&& 1 = rr6.1) <|
    some (rr6.1, i_to, i_from, i_kind, i_number, i_sign, rr6.2.1, rr6.2.2, i_told, j_word)
set_option maxHeartbeats 4000000 in
theorem m14_readNumber (l : Launch) (G : gG) (K : gK) (I : gI) (J : gJ) (X : gX) (A : gI) (B : gJ) (Q : gX) (o : Nat) (shM : Sh K X o 11 rows11) (p1 : Int32) (p2 : Int32) (i_size : Int32) (i_limit : Int32) (i_to : Int32) (i_from : Int32) (i_kind : Int32) (i_number : Int32) (i_sign : Int32) (i_fault : Int32) (i_at : Int32) (i_told : Int32) (j_word : Int64) (a_tape : Nat → Int32) (e_i_size : I 1103 o = i_size) (e_i_limit : I 1104 o = i_limit) (e_i_to : I 1105 o = i_to) (e_i_from : I 1106 o = i_from) (e_i_kind : I 1107 o = i_kind) (e_i_number : I 1108 o = i_number) (e_i_sign : I 1109 o = i_sign) (e_i_fault : I 1110 o = i_fault) (e_i_at : I 1111 o = i_at) (e_i_told : I 1113 o = i_told) (e_j_word : J 1112 o = j_word) (e_a_tape : A (o + 1) = a_tape) (out : Int32 × Int32 × Int32 × Int32 × Int32 × Int32 × Int32 × Int32 × Int32 × Int64) (hf : f14_readNumber p1 p2 i_size i_limit i_to i_from i_kind i_number i_sign i_fault i_at i_told j_word a_tape = some out) : GMet l yX14_readNumber cX14_readNumber 3 (some .boolean) (2) (45) G [.ref o, .int p1, .int p2] K I J X A B Q (some (.int out.1)) K (ov I [(1105, o, out.2.1), (1106, o, out.2.2.1), (1107, o, out.2.2.2.1), (1108, o, out.2.2.2.2.1), (1109, o, out.2.2.2.2.2.1), (1110, o, out.2.2.2.2.2.2.1), (1111, o, out.2.2.2.2.2.2.2.1), (1113, o, out.2.2.2.2.2.2.2.2.1)]) (ov J [(1112, o, out.2.2.2.2.2.2.2.2.2)]) X A B Q 0 0 := by
  refine GMet.of (y := yX14_readNumber) rfl (Nat.le_of_ble_eq_true rfl) rfl ?_
  intro p e s m below meth c ls hx hb hr hml hlocks hts hown hname hG hR hl
  have hown : s.vm.findClass RX14 = some m.cls := hown
  have k_a_tape : K (o + 1) = some (.inr (0, 740)) := (shM.2 0 _ rfl).1
  have hR : RS G K (ov I [(1105, o, i_to), (1106, o, i_from), (1107, o, i_kind), (1108, o, i_number), (1109, o, i_sign), (1110, o, i_fault), (1111, o, i_at), (1113, o, i_told)]) (ov J [(1112, o, j_word)]) X A B Q s.heap := hR.to (Eq.symm (ov_sc e_i_to (ov_sc e_i_from (ov_sc e_i_kind (ov_sc e_i_number (ov_sc e_i_sign (ov_sc e_i_fault (ov_sc e_i_at (ov_sc e_i_told rfl))))))))) (Eq.symm (ov_sc e_j_word rfl)) rfl rfl rfl rfl
  have hS : va_S (gA G) s.heap s.heap [] := va_S.rf
  have hend : ∀ (pc : Nat) (H : Heap) (locs : List Loc) (ls : Array Slot), decode cX14_readNumber pc = .ok (.ireturn, 1) → narrow .boolean (.int out.1) = .int out.1 → RS G K (ov I [(1105, o, out.2.1), (1106, o, out.2.2.1), (1107, o, out.2.2.2.1), (1108, o, out.2.2.2.2.1), (1109, o, out.2.2.2.2.2.1), (1110, o, out.2.2.2.2.2.2.1), (1111, o, out.2.2.2.2.2.2.2.1), (1113, o, out.2.2.2.2.2.2.2.2.1)]) (ov J [(1112, o, out.2.2.2.2.2.2.2.2.2)]) X A B Q H → va_S (gA G) s.heap H locs → W p l e ({ frames := 2, cells := 0, slots := 0, locals := 45 } : Room) s m ([.ref o, .int p1, .int p2] : List Value).toArray below meth c H locs 0 0 (MQ below (gQ G (some (.int out.1)) K (ov I [(1105, o, out.2.1), (1106, o, out.2.2.1), (1107, o, out.2.2.2.1), (1108, o, out.2.2.2.2.1), (1109, o, out.2.2.2.2.2.1), (1110, o, out.2.2.2.2.2.2.1), (1111, o, out.2.2.2.2.2.2.2.1), (1113, o, out.2.2.2.2.2.2.2.2.1)]) (ov J [(1112, o, out.2.2.2.2.2.2.2.2.2)]) X A B Q) ([.ref o, .int p1, .int p2] : List Value).toArray s 0 0 (gA G)) (F0 m pc ls [.int out.1]) := fun pc H locs ls hd hz hR hS => g_zret hx hb hr hlocks hz hG hR hS rfl hd
  generalize MQ below (gQ G (some (.int out.1)) K (ov I [(1105, o, out.2.1), (1106, o, out.2.2.1), (1107, o, out.2.2.2.1), (1108, o, out.2.2.2.2.1), (1109, o, out.2.2.2.2.2.1), (1110, o, out.2.2.2.2.2.2.1), (1111, o, out.2.2.2.2.2.2.2.1), (1113, o, out.2.2.2.2.2.2.2.2.1)]) (ov J [(1112, o, out.2.2.2.2.2.2.2.2.2)]) X A B Q) ([.ref o, .int p1, .int p2] : List Value).toArray s 0 0 (gA G) = Z at hend ⊢
  generalize ([.ref o, .int p1, .int p2] : List Value).toArray = args at hts hend ⊢
  unfold f14_readNumber at hf
  refine lv_aload_n hx hb dX14_readNumber_0 rfl (lv_at hl 0 rfl) ?_
  refine n_geti (v := i_kind) hx hb hts hown hG hR gFi_X14_170_11 shM.1 (ov_get 2 rfl rfl) dX14_readNumber_1 ?_
  refine lv_iconst (v := 3) hx hb dX14_readNumber_4 li_3 ?_
  refine lv_icmp_eq (tgt := 14) hx hb dX14_readNumber_5 (by decide) (fun c1 => ?_) (fun c1 => ?_)
  · have hf := ite_t c1 hf
    refine lv_aload_n hx hb dX14_readNumber_14 rfl (lv_at hl 0 rfl) ?_
    refine n_geti (v := i_number) hx hb hts hown hG hR gFi_X14_187_11 shM.1 (ov_get 3 rfl rfl) dX14_readNumber_15 ?_
    refine lv_iload_n hx hb dX14_readNumber_18 rfl (lv_at hl 1 rfl) ?_
    refine lv_iload_n hx hb dX14_readNumber_19 rfl (lv_at hl 2 rfl) ?_
    obtain ⟨rr2, hrr2, hf⟩ := bind_s hf
    refine g0_cS (rm := (0, 0)) (As := [.int i_number, .int p1, .int p2]) (rest := []) ⟨hx, hb, hml, hown, hts⟩ hG hR hS (m14_isIn l G K (ov I [(1105, o, i_to), (1106, o, i_from), (1107, o, i_kind), (1108, o, i_number), (1109, o, i_sign), (1110, o, i_fault), (1111, o, i_at), (1113, o, i_told)]) (ov J [(1112, o, j_word)]) X A B Q i_number p1 p2 rr2 hrr2) (cwS 3 hts gi_X14_219 rfl rfl rfl hd_X14_isIn ⟨Nat.le_of_ble_eq_true rfl, Nat.le_of_ble_eq_true rfl⟩) rfl hl.1 (Nat.le_of_ble_eq_true rfl) dX14_readNumber_20 ⟨Nat.le_refl _, Nat.le_refl _⟩ rfl (fun H locs hR hS => ?_)
    refine lv_if_ne (tgt := 32) hx hb dX14_readNumber_23 (by decide) (fun c3 => ?_) (fun c3 => ?_)
    · have hf := ite_f c3 hf
      refine lv_aload_n hx hb dX14_readNumber_32 rfl (lv_at hl 0 rfl) ?_
      refine lv_aload_n hx hb dX14_readNumber_33 rfl (lv_at hl 0 rfl) ?_
      refine n_geti (v := i_number) hx hb hts hown hG hR gFi_X14_187_11 shM.1 (ov_get 3 rfl rfl) dX14_readNumber_34 ?_
      refine n_puti (li' := [(1105, o, i_to), (1106, o, i_from), (1107, o, i_kind), (1108, o, i_number), (1109, o, i_sign), (1110, o, i_fault), (1111, o, i_at), (1113, o, i_number)]) hx hb hts hown hG hR hS gPi_X14_223_11 shM.1 7 rfl rfl rfl dX14_readNumber_37 (fun H locs hR hS => ?_)
      refine lv_aload_n hx hb dX14_readNumber_40 rfl (lv_at hl 0 rfl) ?_
      obtain ⟨rr4, hrr4, hf⟩ := bind_s hf
      refine g0_cVv (rm := (1, 21)) (As := []) (rest := []) ⟨hx, hb, hml, hown, hts⟩ hG hR hS (m14_go l G K (ov I [(1105, o, i_to), (1106, o, i_from), (1107, o, i_kind), (1108, o, i_number), (1109, o, i_sign), (1110, o, i_fault), (1111, o, i_at), (1113, o, i_number)]) (ov J [(1112, o, j_word)]) X A B Q o shM i_size i_limit i_to i_from i_kind i_number i_sign j_word a_tape ((congrFun (ov_no rfl) _).trans e_i_size) ((congrFun (ov_no rfl) _).trans e_i_limit) (ov_get 0 rfl rfl) (ov_get 1 rfl rfl) (ov_get 2 rfl rfl) (ov_get 3 rfl rfl) (ov_get 4 rfl rfl) (ov_get 0 rfl rfl) e_a_tape rr4 hrr4) (cwV 0 hts gi_X14_226 rfl rfl rfl hd_X14_go ⟨Nat.le_of_ble_eq_true rfl, Nat.le_of_ble_eq_true rfl⟩) shM.1 rfl rfl hl.1 (Nat.le_of_ble_eq_true rfl) dX14_readNumber_41 ⟨Nat.le_refl _, Nat.le_refl _⟩ rfl (fun H locs hR hS => ?_)
      have hR : RS G K (ov I [(1105, o, rr4.1), (1106, o, rr4.2.1), (1107, o, rr4.2.2.1), (1108, o, rr4.2.2.2.1), (1109, o, rr4.2.2.2.2.1), (1110, o, i_fault), (1111, o, i_at), (1113, o, i_number)]) (ov J [(1112, o, rr4.2.2.2.2.2)]) X A B Q H := hR.to (ov_merge (l := [(1105, o, i_to), (1106, o, i_from), (1107, o, i_kind), (1108, o, i_number), (1109, o, i_sign), (1110, o, i_fault), (1111, o, i_at), (1113, o, i_number)]) rfl [0, 1, 2, 3, 4] [(1105, o, rr4.1), (1106, o, rr4.2.1), (1107, o, rr4.2.2.1), (1108, o, rr4.2.2.2.1), (1109, o, rr4.2.2.2.2.1)] rfl rfl) (ov_merge (l := [(1112, o, j_word)]) rfl [0] [(1112, o, rr4.2.2.2.2.2)] rfl rfl) rfl rfl rfl rfl
      refine lv_iconst (v := 1) hx hb dX14_readNumber_44 li_1 ?_
      obtain rfl := some_i hf
      exact hend _ _ _ _ dX14_readNumber_45 nz_1 hR hS
    · have hf := ite_t c3 hf
      refine lv_aload_n hx hb dX14_readNumber_26 rfl (lv_at hl 0 rfl) ?_
      refine lv_iconst (v := 2) hx hb dX14_readNumber_27 li_2 ?_
      obtain ⟨rr5, hrr5, hf⟩ := bind_s hf
      refine g0_cV (rm := (0, 0)) (As := [.int (2 : Int32)]) (rest := []) ⟨hx, hb, hml, hown, hts⟩ hG hR hS (m14_bad l G K (ov I [(1105, o, i_to), (1106, o, i_from), (1107, o, i_kind), (1108, o, i_number), (1109, o, i_sign), (1110, o, i_fault), (1111, o, i_at), (1113, o, i_told)]) (ov J [(1112, o, j_word)]) X A B Q o shM (2 : Int32) i_from i_kind i_fault i_at (ov_get 1 rfl rfl) (ov_get 2 rfl rfl) (ov_get 5 rfl rfl) (ov_get 6 rfl rfl) rr5 hrr5) (cwV 1 hts gi_X14_216 rfl rfl rfl hd_X14_bad ⟨Nat.le_of_ble_eq_true rfl, Nat.le_of_ble_eq_true rfl⟩) shM.1 rfl rfl hl.1 (Nat.le_of_ble_eq_true rfl) dX14_readNumber_28 ⟨Nat.le_refl _, Nat.le_refl _⟩ rfl (fun H locs hR hS => ?_)
      have hR : RS G K (ov I [(1105, o, i_to), (1106, o, i_from), (1107, o, i_kind), (1108, o, i_number), (1109, o, i_sign), (1110, o, rr5.2.1), (1111, o, rr5.2.2), (1113, o, i_told)]) (ov J [(1112, o, j_word)]) X A B Q H := hR.to (ov_merge (l := [(1105, o, i_to), (1106, o, i_from), (1107, o, i_kind), (1108, o, i_number), (1109, o, i_sign), (1110, o, i_fault), (1111, o, i_at), (1113, o, i_told)]) rfl [5, 6] [(1110, o, rr5.2.1), (1111, o, rr5.2.2)] rfl rfl) rfl rfl rfl rfl rfl
      obtain ⟨hz9, hf⟩ := gd_some hf
      obtain rfl := some_i hf
      exact hend _ _ _ _ dX14_readNumber_31 (congrArg Value.int hz9) hR hS
  · have hf := ite_f c1 hf
    refine lv_aload_n hx hb dX14_readNumber_8 rfl (lv_at hl 0 rfl) ?_
    refine lv_iconst (v := 1) hx hb dX14_readNumber_9 li_1 ?_
    obtain ⟨rr6, hrr6, hf⟩ := bind_s hf
    refine g0_cV (rm := (0, 0)) (As := [.int (1 : Int32)]) (rest := []) ⟨hx, hb, hml, hown, hts⟩ hG hR hS (m14_bad l G K (ov I [(1105, o, i_to), (1106, o, i_from), (1107, o, i_kind), (1108, o, i_number), (1109, o, i_sign), (1110, o, i_fault), (1111, o, i_at), (1113, o, i_told)]) (ov J [(1112, o, j_word)]) X A B Q o shM (1 : Int32) i_from i_kind i_fault i_at (ov_get 1 rfl rfl) (ov_get 2 rfl rfl) (ov_get 5 rfl rfl) (ov_get 6 rfl rfl) rr6 hrr6) (cwV 1 hts gi_X14_216 rfl rfl rfl hd_X14_bad ⟨Nat.le_of_ble_eq_true rfl, Nat.le_of_ble_eq_true rfl⟩) shM.1 rfl rfl hl.1 (Nat.le_of_ble_eq_true rfl) dX14_readNumber_10 ⟨Nat.le_refl _, Nat.le_refl _⟩ rfl (fun H locs hR hS => ?_)
    have hR : RS G K (ov I [(1105, o, i_to), (1106, o, i_from), (1107, o, i_kind), (1108, o, i_number), (1109, o, i_sign), (1110, o, rr6.2.1), (1111, o, rr6.2.2), (1113, o, i_told)]) (ov J [(1112, o, j_word)]) X A B Q H := hR.to (ov_merge (l := [(1105, o, i_to), (1106, o, i_from), (1107, o, i_kind), (1108, o, i_number), (1109, o, i_sign), (1110, o, i_fault), (1111, o, i_at), (1113, o, i_told)]) rfl [5, 6] [(1110, o, rr6.2.1), (1111, o, rr6.2.2)] rfl rfl) rfl rfl rfl rfl rfl
    obtain ⟨hz9, hf⟩ := gd_some hf
    obtain rfl := some_i hf
    exact hend _ _ _ _ dX14_readNumber_13 (congrArg Value.int hz9) hR hS
noncomputable def f14_readCells_e9_0 (i_size : Int32) (i_limit : Int32) (a_tape : Nat → Int32) (rr4 : Int32 × Int32 × Int32 × Int32 × Int32 × Int64) (j69_i_fault : Int32) (j69_i_at : Int32) (x9_0 : (Nat → Int32)) : Option (Int32 × Int32 × Int32 × Int32 × Int32 × Int32 × Int32 × Int32 × Int64 × (Nat → Int32)) :=
  gd (inb (10 : Int32) 200) <|
  lt (x9_0 (10 : Int32).toNatClampNeg) fun v11 =>
  lt (v11 + (1 : Int32)) fun v12 =>
  gd (inb (10 : Int32) 200) <|
  lt (upd x9_0 (10 : Int32).toNatClampNeg v12) fun u14 =>
  (f14_go i_size i_limit rr4.1 rr4.2.1 rr4.2.2.1 rr4.2.2.2.1 rr4.2.2.2.2.1 rr4.2.2.2.2.2 a_tape).bind fun rr15 =>
  some ((1 : Int32), rr15.1, rr15.2.1, rr15.2.2.1, rr15.2.2.2.1, rr15.2.2.2.2.1, j69_i_fault, j69_i_at, rr15.2.2.2.2.2, u14)

noncomputable def f14_readCells_s9 (a_tape : Nat → Int32) (v2 : Int32) (rr4 : Int32 × Int32 × Int32 × Int32 × Int32 × Int64) (v6 : Int32) (w9_3 : Int32) (w9_a_read : Nat → Int32) : Option ((Int32 × (Nat → Int32)) ⊕ ((Nat → Int32))) :=
  if v6 ≤ w9_3 then
    some (.inr w9_a_read)
  else
    lt (v6 * v2) fun v17 =>
    lt ((60 : Int32) + v17) fun v18 =>
    lt (v18 + w9_3) fun v19 =>
    lt (rr4.2.1 + w9_3) fun v20 =>
    gd (inb v20 740) <|
    lt (a_tape v20.toNatClampNeg) fun v22 =>
    lt (v22 - (48 : Int32)) fun v23 =>
    gd (inb v19 200) <|
    lt (upd w9_a_read v19.toNatClampNeg v23) fun u25 =>
    lt (w9_3 + (1 : Int32)) fun v26 =>
    some (.inl (v26, u25))

noncomputable def f14_readCells_j69 (i_size : Int32) (i_limit : Int32) (a_tape : Nat → Int32) (a_read : Nat → Int32) (v2 : Int32) (rr4 : Int32 × Int32 × Int32 × Int32 × Int32 × Int64) (v6 : Int32) (j69_i_fault : Int32) (j69_i_at : Int32) : Option (Int32 × Int32 × Int32 × Int32 × Int32 × Int32 × Int32 × Int32 × Int64 × (Nat → Int32)) :=
  gd (inb (9 : Int32) 200) <|
  lt (upd a_read (9 : Int32).toNatClampNeg v6) fun u8 =>
  (whl (fun (s9 : Int32 × (Nat → Int32)) => f14_readCells_s9 a_tape v2 rr4 v6 s9.1 s9.2) FU ((0 : Int32), u8)).bind fun rl9 =>
  f14_readCells_e9_0 i_size i_limit a_tape rr4 j69_i_fault j69_i_at rl9

noncomputable def f14_readCells (i_size : Int32) (i_limit : Int32) (i_to : Int32) (i_from : Int32) (i_kind : Int32) (i_number : Int32) (i_sign : Int32) (i_fault : Int32) (i_at : Int32) (j_word : Int64) (a_tape : Nat → Int32) (a_read : Nat → Int32) : Option (Int32 × Int32 × Int32 × Int32 × Int32 × Int32 × Int32 × Int32 × Int64 × (Nat → Int32)) :=
  gd (inb (10 : Int32) 200) <|
  lt (a_read (10 : Int32).toNatClampNeg) fun v2 =>
  if v2 = (8 : Int32) then
    (f14_bad (4 : Int32) i_from i_kind i_fault i_at).bind fun rr33 =>
    gd (rr33.1 &&& 1 = rr33.1) <|
    some (rr33.1, i_to, i_from, i_kind, i_number, i_sign, rr33.2.1, rr33.2.2, j_word, a_read)
  else
    (f14_go i_size i_limit i_to i_from i_kind i_number i_sign j_word a_tape).bind fun rr4 =>
    if rr4.2.2.1 = (3 : Int32) then
      lt (rr4.1 - rr4.2.1) fun v6 =>
      if v2 ≤ 0 then
        f14_readCells_j69 i_size i_limit a_tape a_read v2 rr4 v6 i_fault i_at
      else
        gd (inb (9 : Int32) 200) <|
        lt (a_read (9 : Int32).toNatClampNeg) fun v29 =>
        if v6 = v29 then
          f14_readCells_j69 i_size i_limit a_tape a_read v2 rr4 v6 i_fault i_at
        else
          (f14_bad (2 : Int32) rr4.2.1 rr4.2.2.1 i_fault i_at).bind fun rr31 =>
          gd (rr31.1 &&& 1 = rr31.1) <|
          some (rr31.1, rr4.1, rr4.2.1, rr4.2.2.1, rr4.2.2.2.1, rr4.2.2.2.2.1, rr31.2.1, rr31.2.2, rr4.2.2.2.2.2, a_read)
    else
      (f14_bad (1 : Int32) rr4.2.1 rr4.2.2.1 i_fault i_at).bind fun rr32 =>
      gd (rr32.1 &&& 1 = rr32.1) <|
      some (rr32.1, rr4.1, rr4.2.1, rr4.2.2.1, rr4.2.2.2.1, rr4.2.2.2.2.1, rr32.2.1, rr32.2.2, rr4.2.2.2.2.2, a_read)
set_option maxHeartbeats 4000000 in
theorem m14_readCells (l : Launch) (G : gG) (K : gK) (I : gI) (J : gJ) (X : gX) (A : gI) (B : gJ) (Q : gX) (o : Nat) (shM : Sh K X o 11 rows11)  (i_size : Int32) (i_limit : Int32) (i_to : Int32) (i_from : Int32) (i_kind : Int32) (i_number : Int32) (i_sign : Int32) (i_fault : Int32) (i_at : Int32) (j_word : Int64) (a_tape : Nat → Int32) (a_read : Nat → Int32) (e_i_size : I 1103 o = i_size) (e_i_limit : I 1104 o = i_limit) (e_i_to : I 1105 o = i_to) (e_i_from : I 1106 o = i_from) (e_i_kind : I 1107 o = i_kind) (e_i_number : I 1108 o = i_number) (e_i_sign : I 1109 o = i_sign) (e_i_fault : I 1110 o = i_fault) (e_i_at : I 1111 o = i_at) (e_j_word : J 1112 o = j_word) (e_a_tape : A (o + 1) = a_tape) (e_a_read : A (o + 3) = a_read) (out : Int32 × Int32 × Int32 × Int32 × Int32 × Int32 × Int32 × Int32 × Int64 × (Nat → Int32)) (hf : f14_readCells i_size i_limit i_to i_from i_kind i_number i_sign i_fault i_at j_word a_tape a_read = some out) : GMet l yX14_readCells cX14_readCells 4 (some .boolean) (2) (45) G [.ref o] K I J X A B Q (some (.int out.1)) K (ov I [(1105, o, out.2.1), (1106, o, out.2.2.1), (1107, o, out.2.2.2.1), (1108, o, out.2.2.2.2.1), (1109, o, out.2.2.2.2.2.1), (1110, o, out.2.2.2.2.2.2.1), (1111, o, out.2.2.2.2.2.2.2.1)]) (ov J [(1112, o, out.2.2.2.2.2.2.2.2.1)]) X (ova A [((o + 1), a_tape), ((o + 3), out.2.2.2.2.2.2.2.2.2)]) B Q 0 0 := by
  refine GMet.of (y := yX14_readCells) rfl (Nat.le_of_ble_eq_true rfl) rfl ?_
  intro p e s m below meth c ls hx hb hr hml hlocks hts hown hname hG hR hl
  have hown : s.vm.findClass RX14 = some m.cls := hown
  have k_a_tape : K (o + 1) = some (.inr (0, 740)) := (shM.2 0 _ rfl).1
  have k_a_read : K (o + 3) = some (.inr (0, 200)) := (shM.2 2 _ rfl).1
  have hN_A : nda [(o + 1), (o + 3)] := nd_off o [1, 3] rfl
  have hR : RS G K (ov I [(1105, o, i_to), (1106, o, i_from), (1107, o, i_kind), (1108, o, i_number), (1109, o, i_sign), (1110, o, i_fault), (1111, o, i_at)]) (ov J [(1112, o, j_word)]) X (ova A [((o + 1), a_tape), ((o + 3), a_read)]) B Q s.heap := hR.to (Eq.symm (ov_sc e_i_to (ov_sc e_i_from (ov_sc e_i_kind (ov_sc e_i_number (ov_sc e_i_sign (ov_sc e_i_fault (ov_sc e_i_at rfl)))))))) (Eq.symm (ov_sc e_j_word rfl)) rfl (Eq.symm (ova_sc e_a_tape (ova_sc e_a_read rfl))) rfl rfl
  have hS : va_S (gA G) s.heap s.heap [] := va_S.rf
  have hend : ∀ (pc : Nat) (H : Heap) (locs : List Loc) (ls : Array Slot), decode cX14_readCells pc = .ok (.ireturn, 1) → narrow .boolean (.int out.1) = .int out.1 → RS G K (ov I [(1105, o, out.2.1), (1106, o, out.2.2.1), (1107, o, out.2.2.2.1), (1108, o, out.2.2.2.2.1), (1109, o, out.2.2.2.2.2.1), (1110, o, out.2.2.2.2.2.2.1), (1111, o, out.2.2.2.2.2.2.2.1)]) (ov J [(1112, o, out.2.2.2.2.2.2.2.2.1)]) X (ova A [((o + 1), a_tape), ((o + 3), out.2.2.2.2.2.2.2.2.2)]) B Q H → va_S (gA G) s.heap H locs → W p l e ({ frames := 2, cells := 0, slots := 0, locals := 45 } : Room) s m ([.ref o] : List Value).toArray below meth c H locs 0 0 (MQ below (gQ G (some (.int out.1)) K (ov I [(1105, o, out.2.1), (1106, o, out.2.2.1), (1107, o, out.2.2.2.1), (1108, o, out.2.2.2.2.1), (1109, o, out.2.2.2.2.2.1), (1110, o, out.2.2.2.2.2.2.1), (1111, o, out.2.2.2.2.2.2.2.1)]) (ov J [(1112, o, out.2.2.2.2.2.2.2.2.1)]) X (ova A [((o + 1), a_tape), ((o + 3), out.2.2.2.2.2.2.2.2.2)]) B Q) ([.ref o] : List Value).toArray s 0 0 (gA G)) (F0 m pc ls [.int out.1]) := fun pc H locs ls hd hz hR hS => g_zret hx hb hr hlocks hz hG hR hS rfl hd
  generalize MQ below (gQ G (some (.int out.1)) K (ov I [(1105, o, out.2.1), (1106, o, out.2.2.1), (1107, o, out.2.2.2.1), (1108, o, out.2.2.2.2.1), (1109, o, out.2.2.2.2.2.1), (1110, o, out.2.2.2.2.2.2.1), (1111, o, out.2.2.2.2.2.2.2.1)]) (ov J [(1112, o, out.2.2.2.2.2.2.2.2.1)]) X (ova A [((o + 1), a_tape), ((o + 3), out.2.2.2.2.2.2.2.2.2)]) B Q) ([.ref o] : List Value).toArray s 0 0 (gA G) = Z at hend ⊢
  generalize ([.ref o] : List Value).toArray = args at hts hend ⊢
  unfold f14_readCells at hf
  refine lv_aload_n hx hb dX14_readCells_0 rfl (lv_at hl 0 rfl) ?_
  refine g_getr (b := (o + 3)) hx hb hts hown hG hR gFx_X14_16_11 shM.1 ((shM.2 2 _ rfl).2) dX14_readCells_1 ?_
  refine lv_bipush (v := 10) hx hb dX14_readCells_4 lb_10 ?_
  obtain ⟨c1, hf⟩ := gd_some hf
  obtain ⟨v2, ev2, hf⟩ := lt_some hf
  refine n_iald (x := a_read) hx hb hG hR k_a_read c1 (ova_get 1 hN_A rfl) ev2 dX14_readCells_6 ?_
  refine lv_istore_n (lv' := [(1, .int v2), (0, .ref o)]) hx hb dX14_readCells_7 rfl hl (by decide) rfl (fun ls hl => ?_)
  refine lv_iload_n hx hb dX14_readCells_8 rfl (lv_at hl 0 rfl) ?_
  refine lv_bipush (v := 8) hx hb dX14_readCells_9 lb_8 ?_
  refine lv_icmp_ne (tgt := 20) hx hb dX14_readCells_11 (by decide) (fun c3 => ?_) (fun c3 => ?_)
  · have hf := ite_f c3 hf
    refine lv_aload_n hx hb dX14_readCells_20 rfl (lv_at hl 1 rfl) ?_
    obtain ⟨rr4, hrr4, hf⟩ := bind_s hf
    refine g0_cVv (rm := (1, 21)) (As := []) (rest := []) ⟨hx, hb, hml, hown, hts⟩ hG hR hS (m14_go l G K (ov I [(1105, o, i_to), (1106, o, i_from), (1107, o, i_kind), (1108, o, i_number), (1109, o, i_sign), (1110, o, i_fault), (1111, o, i_at)]) (ov J [(1112, o, j_word)]) X (ova A [((o + 1), a_tape), ((o + 3), a_read)]) B Q o shM i_size i_limit i_to i_from i_kind i_number i_sign j_word a_tape ((congrFun (ov_no rfl) _).trans e_i_size) ((congrFun (ov_no rfl) _).trans e_i_limit) (ov_get 0 rfl rfl) (ov_get 1 rfl rfl) (ov_get 2 rfl rfl) (ov_get 3 rfl rfl) (ov_get 4 rfl rfl) (ov_get 0 rfl rfl) (ova_get 0 hN_A rfl) rr4 hrr4) (cwV 0 hts gi_X14_226 rfl rfl rfl hd_X14_go ⟨Nat.le_of_ble_eq_true rfl, Nat.le_of_ble_eq_true rfl⟩) shM.1 rfl rfl hl.1 (Nat.le_of_ble_eq_true rfl) dX14_readCells_21 ⟨Nat.le_refl _, Nat.le_refl _⟩ rfl (fun H locs hR hS => ?_)
    have hR : RS G K (ov I [(1105, o, rr4.1), (1106, o, rr4.2.1), (1107, o, rr4.2.2.1), (1108, o, rr4.2.2.2.1), (1109, o, rr4.2.2.2.2.1), (1110, o, i_fault), (1111, o, i_at)]) (ov J [(1112, o, rr4.2.2.2.2.2)]) X (ova A [((o + 1), a_tape), ((o + 3), a_read)]) B Q H := hR.to (ov_merge (l := [(1105, o, i_to), (1106, o, i_from), (1107, o, i_kind), (1108, o, i_number), (1109, o, i_sign), (1110, o, i_fault), (1111, o, i_at)]) rfl [0, 1, 2, 3, 4] [(1105, o, rr4.1), (1106, o, rr4.2.1), (1107, o, rr4.2.2.1), (1108, o, rr4.2.2.2.1), (1109, o, rr4.2.2.2.2.1)] rfl rfl) (ov_merge (l := [(1112, o, j_word)]) rfl [0] [(1112, o, rr4.2.2.2.2.2)] rfl rfl) rfl rfl rfl rfl
    refine lv_aload_n hx hb dX14_readCells_24 rfl (lv_at hl 1 rfl) ?_
    refine n_geti (v := rr4.2.2.1) hx hb hts hown hG hR gFi_X14_170_11 shM.1 (ov_get 2 rfl rfl) dX14_readCells_25 ?_
    refine lv_iconst (v := 3) hx hb dX14_readCells_28 li_3 ?_
    refine lv_icmp_eq (tgt := 38) hx hb dX14_readCells_29 (by decide) (fun c5 => ?_) (fun c5 => ?_)
    · have hf := ite_t c5 hf
      refine lv_aload_n hx hb dX14_readCells_38 rfl (lv_at hl 1 rfl) ?_
      refine n_geti (v := rr4.1) hx hb hts hown hG hR gFi_X14_161_11 shM.1 (ov_get 0 rfl rfl) dX14_readCells_39 ?_
      refine lv_aload_n hx hb dX14_readCells_42 rfl (lv_at hl 1 rfl) ?_
      refine n_geti (v := rr4.2.1) hx hb hts hown hG hR gFi_X14_164_11 shM.1 (ov_get 1 rfl rfl) dX14_readCells_43 ?_
      obtain ⟨v6, ev6, hf⟩ := lt_some hf
      refine n_isub hx hb ev6 dX14_readCells_46 ?_
      refine lv_istore_n (lv' := [(2, .int v6), (1, .int v2), (0, .ref o)]) hx hb dX14_readCells_47 rfl hl (by decide) rfl (fun ls hl => ?_)
      refine lv_iload_n hx hb dX14_readCells_48 rfl (lv_at hl 1 rfl) ?_
      have hj69 : ∀ (j69_i_fault : Int32) (j69_i_at : Int32), f14_readCells_j69 i_size i_limit a_tape a_read v2 rr4 v6 j69_i_fault j69_i_at = some out → ∀ (H : Heap) (locs : List Loc) (ls : Array Slot), RS G K (ov I [(1105, o, rr4.1), (1106, o, rr4.2.1), (1107, o, rr4.2.2.1), (1108, o, rr4.2.2.2.1), (1109, o, rr4.2.2.2.2.1), (1110, o, j69_i_fault), (1111, o, j69_i_at)]) (ov J [(1112, o, rr4.2.2.2.2.2)]) X (ova A [((o + 1), a_tape), ((o + 3), a_read)]) B Q H → va_S (gA G) s.heap H locs → lv_has ls 4 [(0, .ref o), (1, .int v2), (2, .int v6)] → W p l e ({ frames := 2, cells := 0, slots := 0, locals := 45 } : Room) s m args below meth c H locs 0 0 Z (F0 m 69 ls []) := by
        intro j69_i_fault j69_i_at hf H locs ls hR hS hl
        unfold f14_readCells_j69 at hf
        refine lv_aload_n hx hb dX14_readCells_69 rfl (lv_at hl 0 rfl) ?_
        refine g_getr (b := (o + 3)) hx hb hts hown hG hR gFx_X14_16_11 shM.1 ((shM.2 2 _ rfl).2) dX14_readCells_70 ?_
        refine lv_bipush (v := 9) hx hb dX14_readCells_73 lb_9 ?_
        refine lv_iload_n hx hb dX14_readCells_75 rfl (lv_at hl 2 rfl) ?_
        obtain ⟨c7, hf⟩ := gd_some hf
        obtain ⟨u8, eu8, hf⟩ := lt_some hf
        refine n_iast (la' := [((o + 1), a_tape), ((o + 3), u8)]) hx hb hG hR hS k_a_read c7 hN_A 1 rfl eu8 rfl dX14_readCells_76 (fun H locs hR hS => ?_)
        refine lv_iconst (v := 0) hx hb dX14_readCells_77 li_0 ?_
        refine lv_istore_n (lv' := [(3, .int (0 : Int32)), (0, .ref o), (1, .int v2), (2, .int v6)]) hx hb dX14_readCells_78 rfl hl (by decide) rfl (fun ls hl => ?_)
        obtain ⟨rl9, hw9, hfo9⟩ := bind_s hf
        have hx9_0 : ∀ (x9_0 : (Nat → Int32)), f14_readCells_e9_0 i_size i_limit a_tape rr4 j69_i_fault j69_i_at x9_0 = some out → ∀ (H : Heap) (locs : List Loc) (ls : Array Slot), RS G K (ov I [(1105, o, rr4.1), (1106, o, rr4.2.1), (1107, o, rr4.2.2.1), (1108, o, rr4.2.2.2.1), (1109, o, rr4.2.2.2.2.1), (1110, o, j69_i_fault), (1111, o, j69_i_at)]) (ov J [(1112, o, rr4.2.2.2.2.2)]) X (ova A [((o + 1), a_tape), ((o + 3), x9_0)]) B Q H → va_S (gA G) s.heap H locs → lv_has ls 4 [(0, .ref o)] → W p l e ({ frames := 2, cells := 0, slots := 0, locals := 45 } : Room) s m args below meth c H locs 0 0 Z (F0 m 117 ls []) := by
          intro x9_0 hf H locs ls hR hS hl
          unfold f14_readCells_e9_0 at hf
          refine lv_aload_n hx hb dX14_readCells_117 rfl (lv_at hl 0 rfl) ?_
          refine g_getr (b := (o + 3)) hx hb hts hown hG hR gFx_X14_16_11 shM.1 ((shM.2 2 _ rfl).2) dX14_readCells_118 ?_
          refine lv_bipush (v := 10) hx hb dX14_readCells_121 lb_10 ?_
          refine lv_dup2_11 hx hb dX14_readCells_123 rfl rfl ?_
          obtain ⟨c10, hf⟩ := gd_some hf
          obtain ⟨v11, ev11, hf⟩ := lt_some hf
          refine n_iald (x := x9_0) hx hb hG hR k_a_read c10 (ova_get 1 hN_A rfl) ev11 dX14_readCells_124 ?_
          refine lv_iconst (v := 1) hx hb dX14_readCells_125 li_1 ?_
          obtain ⟨v12, ev12, hf⟩ := lt_some hf
          refine n_iadd hx hb ev12 dX14_readCells_126 ?_
          obtain ⟨c13, hf⟩ := gd_some hf
          obtain ⟨u14, eu14, hf⟩ := lt_some hf
          refine n_iast (la' := [((o + 1), a_tape), ((o + 3), u14)]) hx hb hG hR hS k_a_read c13 hN_A 1 rfl eu14 rfl dX14_readCells_127 (fun H locs hR hS => ?_)
          refine lv_aload_n hx hb dX14_readCells_128 rfl (lv_at hl 0 rfl) ?_
          obtain ⟨rr15, hrr15, hf⟩ := bind_s hf
          refine g0_cVv (rm := (1, 21)) (As := []) (rest := []) ⟨hx, hb, hml, hown, hts⟩ hG hR hS (m14_go l G K (ov I [(1105, o, rr4.1), (1106, o, rr4.2.1), (1107, o, rr4.2.2.1), (1108, o, rr4.2.2.2.1), (1109, o, rr4.2.2.2.2.1), (1110, o, j69_i_fault), (1111, o, j69_i_at)]) (ov J [(1112, o, rr4.2.2.2.2.2)]) X (ova A [((o + 1), a_tape), ((o + 3), u14)]) B Q o shM i_size i_limit rr4.1 rr4.2.1 rr4.2.2.1 rr4.2.2.2.1 rr4.2.2.2.2.1 rr4.2.2.2.2.2 a_tape ((congrFun (ov_no rfl) _).trans e_i_size) ((congrFun (ov_no rfl) _).trans e_i_limit) (ov_get 0 rfl rfl) (ov_get 1 rfl rfl) (ov_get 2 rfl rfl) (ov_get 3 rfl rfl) (ov_get 4 rfl rfl) (ov_get 0 rfl rfl) (ova_get 0 hN_A rfl) rr15 hrr15) (cwV 0 hts gi_X14_226 rfl rfl rfl hd_X14_go ⟨Nat.le_of_ble_eq_true rfl, Nat.le_of_ble_eq_true rfl⟩) shM.1 rfl rfl hl.1 (Nat.le_of_ble_eq_true rfl) dX14_readCells_129 ⟨Nat.le_refl _, Nat.le_refl _⟩ rfl (fun H locs hR hS => ?_)
          have hR : RS G K (ov I [(1105, o, rr15.1), (1106, o, rr15.2.1), (1107, o, rr15.2.2.1), (1108, o, rr15.2.2.2.1), (1109, o, rr15.2.2.2.2.1), (1110, o, j69_i_fault), (1111, o, j69_i_at)]) (ov J [(1112, o, rr15.2.2.2.2.2)]) X (ova A [((o + 1), a_tape), ((o + 3), u14)]) B Q H := hR.to (ov_merge (l := [(1105, o, rr4.1), (1106, o, rr4.2.1), (1107, o, rr4.2.2.1), (1108, o, rr4.2.2.2.1), (1109, o, rr4.2.2.2.2.1), (1110, o, j69_i_fault), (1111, o, j69_i_at)]) rfl [0, 1, 2, 3, 4] [(1105, o, rr15.1), (1106, o, rr15.2.1), (1107, o, rr15.2.2.1), (1108, o, rr15.2.2.2.1), (1109, o, rr15.2.2.2.2.1)] rfl rfl) (ov_merge (l := [(1112, o, rr4.2.2.2.2.2)]) rfl [0] [(1112, o, rr15.2.2.2.2.2)] rfl rfl) rfl rfl rfl rfl
          refine lv_iconst (v := 1) hx hb dX14_readCells_132 li_1 ?_
          obtain rfl := some_i hf
          exact hend _ _ _ _ dX14_readCells_133 nz_1 hR hS
        refine whl_walk (P := fun (s9 : Int32 × (Nat → Int32)) => ∀ (H : Heap) (locs : List Loc) (ls : Array Slot), RS G K (ov I [(1105, o, rr4.1), (1106, o, rr4.2.1), (1107, o, rr4.2.2.1), (1108, o, rr4.2.2.2.1), (1109, o, rr4.2.2.2.2.1), (1110, o, j69_i_fault), (1111, o, j69_i_at)]) (ov J [(1112, o, rr4.2.2.2.2.2)]) X (ova A [((o + 1), a_tape), ((o + 3), s9.2)]) B Q H → va_S (gA G) s.heap H locs → lv_has ls 4 [(0, .ref o), (1, .int v2), (2, .int v6), (3, .int s9.1)] → W p l e ({ frames := 2, cells := 0, slots := 0, locals := 45 } : Room) s m args below meth c H locs 0 0 Z (F0 m 79 ls [])) (r := rl9) ?_ FU _ hw9 _ _ _ hR hS (lv_sub hl [1, 2, 3, 0] rfl)
        clear hR hS hl hf
        intro s9 o9 hf hk9 H locs ls hR hS hl
        obtain ⟨w9_3, w9_a_read⟩ := s9
        have hf : f14_readCells_s9 a_tape v2 rr4 v6 w9_3 w9_a_read = some o9 := hf
        have hR : RS G K (ov I [(1105, o, rr4.1), (1106, o, rr4.2.1), (1107, o, rr4.2.2.1), (1108, o, rr4.2.2.2.1), (1109, o, rr4.2.2.2.2.1), (1110, o, j69_i_fault), (1111, o, j69_i_at)]) (ov J [(1112, o, rr4.2.2.2.2.2)]) X (ova A [((o + 1), a_tape), ((o + 3), w9_a_read)]) B Q H := hR
        have hl : lv_has ls 4 [(0, .ref o), (1, .int v2), (2, .int v6), (3, .int w9_3)] := hl
        unfold f14_readCells_s9 at hf
        refine lv_iload_n hx hb dX14_readCells_79 rfl (lv_at hl 3 rfl) ?_
        refine lv_iload_n hx hb dX14_readCells_80 rfl (lv_at hl 2 rfl) ?_
        refine lv_icmp_ge (tgt := 117) hx hb dX14_readCells_81 (by decide) (fun c16 => ?_) (fun c16 => ?_)
        · have hf := ite_t c16 hf
          obtain rfl := some_i hf
          replace hk9 : _ = rl9 := hk9
          subst hk9
          exact hx9_0 w9_a_read hfo9 _ _ _ hR hS (lv_sub hl [0] rfl)
        · have hf := ite_f c16 hf
          refine lv_aload_n hx hb dX14_readCells_84 rfl (lv_at hl 0 rfl) ?_
          refine g_getr (b := (o + 3)) hx hb hts hown hG hR gFx_X14_16_11 shM.1 ((shM.2 2 _ rfl).2) dX14_readCells_85 ?_
          refine lv_bipush (v := 60) hx hb dX14_readCells_88 lb_60 ?_
          refine lv_iload_n hx hb dX14_readCells_90 rfl (lv_at hl 2 rfl) ?_
          refine lv_iload_n hx hb dX14_readCells_91 rfl (lv_at hl 1 rfl) ?_
          obtain ⟨v17, ev17, hf⟩ := lt_some hf
          refine n_imul hx hb ev17 dX14_readCells_92 ?_
          obtain ⟨v18, ev18, hf⟩ := lt_some hf
          refine n_iadd hx hb ev18 dX14_readCells_93 ?_
          refine lv_iload_n hx hb dX14_readCells_94 rfl (lv_at hl 3 rfl) ?_
          obtain ⟨v19, ev19, hf⟩ := lt_some hf
          refine n_iadd hx hb ev19 dX14_readCells_95 ?_
          refine lv_aload_n hx hb dX14_readCells_96 rfl (lv_at hl 0 rfl) ?_
          refine g_getr (b := (o + 1)) hx hb hts hown hG hR gFx_X14_7_11 shM.1 ((shM.2 0 _ rfl).2) dX14_readCells_97 ?_
          refine lv_aload_n hx hb dX14_readCells_100 rfl (lv_at hl 0 rfl) ?_
          refine n_geti (v := rr4.2.1) hx hb hts hown hG hR gFi_X14_164_11 shM.1 (ov_get 1 rfl rfl) dX14_readCells_101 ?_
          refine lv_iload_n hx hb dX14_readCells_104 rfl (lv_at hl 3 rfl) ?_
          obtain ⟨v20, ev20, hf⟩ := lt_some hf
          refine n_iadd hx hb ev20 dX14_readCells_105 ?_
          obtain ⟨c21, hf⟩ := gd_some hf
          obtain ⟨v22, ev22, hf⟩ := lt_some hf
          refine n_iald (x := a_tape) hx hb hG hR k_a_tape c21 (ova_get 0 hN_A rfl) ev22 dX14_readCells_106 ?_
          refine lv_bipush (v := 48) hx hb dX14_readCells_107 lb_48 ?_
          obtain ⟨v23, ev23, hf⟩ := lt_some hf
          refine n_isub hx hb ev23 dX14_readCells_109 ?_
          obtain ⟨c24, hf⟩ := gd_some hf
          obtain ⟨u25, eu25, hf⟩ := lt_some hf
          refine n_iast (la' := [((o + 1), a_tape), ((o + 3), u25)]) hx hb hG hR hS k_a_read c24 hN_A 1 rfl eu25 rfl dX14_readCells_110 (fun H locs hR hS => ?_)
          obtain ⟨v26, ev26, hf⟩ := lt_some hf
          refine lv_iinc (k := 3) (v := v26) (lv' := [(3, .int v26), (0, .ref o), (1, .int v2), (2, .int v6)]) hx hb dX14_readCells_111 hl rfl (by rw [ev26]; rfl) (by decide) rfl (fun ls hl => ?_)
          refine lv_goto (tgt := 79) hx hb dX14_readCells_114 (by decide) ?_
          obtain rfl := some_i hf
          exact hk9 _ _ _ hR hS (lv_sub hl [1, 2, 3, 0] rfl)
      refine lv_if_le (tgt := 69) hx hb dX14_readCells_49 (by decide) (fun c27 => ?_) (fun c27 => ?_)
      · have hf := ite_t c27 hf
        exact hj69 i_fault i_at hf _ _ _ hR hS (lv_sub hl [2, 1, 0] rfl)
      · have hf := ite_f c27 hf
        refine lv_iload_n hx hb dX14_readCells_52 rfl (lv_at hl 0 rfl) ?_
        refine lv_aload_n hx hb dX14_readCells_53 rfl (lv_at hl 2 rfl) ?_
        refine g_getr (b := (o + 3)) hx hb hts hown hG hR gFx_X14_16_11 shM.1 ((shM.2 2 _ rfl).2) dX14_readCells_54 ?_
        refine lv_bipush (v := 9) hx hb dX14_readCells_57 lb_9 ?_
        obtain ⟨c28, hf⟩ := gd_some hf
        obtain ⟨v29, ev29, hf⟩ := lt_some hf
        refine n_iald (x := a_read) hx hb hG hR k_a_read c28 (ova_get 1 hN_A rfl) ev29 dX14_readCells_59 ?_
        refine lv_icmp_eq (tgt := 69) hx hb dX14_readCells_60 (by decide) (fun c30 => ?_) (fun c30 => ?_)
        · have hf := ite_t c30 hf
          exact hj69 i_fault i_at hf _ _ _ hR hS (lv_sub hl [2, 1, 0] rfl)
        · have hf := ite_f c30 hf
          refine lv_aload_n hx hb dX14_readCells_63 rfl (lv_at hl 2 rfl) ?_
          refine lv_iconst (v := 2) hx hb dX14_readCells_64 li_2 ?_
          obtain ⟨rr31, hrr31, hf⟩ := bind_s hf
          refine g0_cV (rm := (0, 0)) (As := [.int (2 : Int32)]) (rest := []) ⟨hx, hb, hml, hown, hts⟩ hG hR hS (m14_bad l G K (ov I [(1105, o, rr4.1), (1106, o, rr4.2.1), (1107, o, rr4.2.2.1), (1108, o, rr4.2.2.2.1), (1109, o, rr4.2.2.2.2.1), (1110, o, i_fault), (1111, o, i_at)]) (ov J [(1112, o, rr4.2.2.2.2.2)]) X (ova A [((o + 1), a_tape), ((o + 3), a_read)]) B Q o shM (2 : Int32) rr4.2.1 rr4.2.2.1 i_fault i_at (ov_get 1 rfl rfl) (ov_get 2 rfl rfl) (ov_get 5 rfl rfl) (ov_get 6 rfl rfl) rr31 hrr31) (cwV 1 hts gi_X14_216 rfl rfl rfl hd_X14_bad ⟨Nat.le_of_ble_eq_true rfl, Nat.le_of_ble_eq_true rfl⟩) shM.1 rfl rfl hl.1 (Nat.le_of_ble_eq_true rfl) dX14_readCells_65 ⟨Nat.le_refl _, Nat.le_refl _⟩ rfl (fun H locs hR hS => ?_)
          have hR : RS G K (ov I [(1105, o, rr4.1), (1106, o, rr4.2.1), (1107, o, rr4.2.2.1), (1108, o, rr4.2.2.2.1), (1109, o, rr4.2.2.2.2.1), (1110, o, rr31.2.1), (1111, o, rr31.2.2)]) (ov J [(1112, o, rr4.2.2.2.2.2)]) X (ova A [((o + 1), a_tape), ((o + 3), a_read)]) B Q H := hR.to (ov_merge (l := [(1105, o, rr4.1), (1106, o, rr4.2.1), (1107, o, rr4.2.2.1), (1108, o, rr4.2.2.2.1), (1109, o, rr4.2.2.2.2.1), (1110, o, i_fault), (1111, o, i_at)]) rfl [5, 6] [(1110, o, rr31.2.1), (1111, o, rr31.2.2)] rfl rfl) rfl rfl rfl rfl rfl
          obtain ⟨hz9, hf⟩ := gd_some hf
          obtain rfl := some_i hf
          exact hend _ _ _ _ dX14_readCells_68 (congrArg Value.int hz9) hR hS
    · have hf := ite_f c5 hf
      refine lv_aload_n hx hb dX14_readCells_32 rfl (lv_at hl 1 rfl) ?_
      refine lv_iconst (v := 1) hx hb dX14_readCells_33 li_1 ?_
      obtain ⟨rr32, hrr32, hf⟩ := bind_s hf
      refine g0_cV (rm := (0, 0)) (As := [.int (1 : Int32)]) (rest := []) ⟨hx, hb, hml, hown, hts⟩ hG hR hS (m14_bad l G K (ov I [(1105, o, rr4.1), (1106, o, rr4.2.1), (1107, o, rr4.2.2.1), (1108, o, rr4.2.2.2.1), (1109, o, rr4.2.2.2.2.1), (1110, o, i_fault), (1111, o, i_at)]) (ov J [(1112, o, rr4.2.2.2.2.2)]) X (ova A [((o + 1), a_tape), ((o + 3), a_read)]) B Q o shM (1 : Int32) rr4.2.1 rr4.2.2.1 i_fault i_at (ov_get 1 rfl rfl) (ov_get 2 rfl rfl) (ov_get 5 rfl rfl) (ov_get 6 rfl rfl) rr32 hrr32) (cwV 1 hts gi_X14_216 rfl rfl rfl hd_X14_bad ⟨Nat.le_of_ble_eq_true rfl, Nat.le_of_ble_eq_true rfl⟩) shM.1 rfl rfl hl.1 (Nat.le_of_ble_eq_true rfl) dX14_readCells_34 ⟨Nat.le_refl _, Nat.le_refl _⟩ rfl (fun H locs hR hS => ?_)
      have hR : RS G K (ov I [(1105, o, rr4.1), (1106, o, rr4.2.1), (1107, o, rr4.2.2.1), (1108, o, rr4.2.2.2.1), (1109, o, rr4.2.2.2.2.1), (1110, o, rr32.2.1), (1111, o, rr32.2.2)]) (ov J [(1112, o, rr4.2.2.2.2.2)]) X (ova A [((o + 1), a_tape), ((o + 3), a_read)]) B Q H := hR.to (ov_merge (l := [(1105, o, rr4.1), (1106, o, rr4.2.1), (1107, o, rr4.2.2.1), (1108, o, rr4.2.2.2.1), (1109, o, rr4.2.2.2.2.1), (1110, o, i_fault), (1111, o, i_at)]) rfl [5, 6] [(1110, o, rr32.2.1), (1111, o, rr32.2.2)] rfl rfl) rfl rfl rfl rfl rfl
      obtain ⟨hz9, hf⟩ := gd_some hf
      obtain rfl := some_i hf
      exact hend _ _ _ _ dX14_readCells_37 (congrArg Value.int hz9) hR hS
  · have hf := ite_t c3 hf
    refine lv_aload_n hx hb dX14_readCells_14 rfl (lv_at hl 1 rfl) ?_
    refine lv_iconst (v := 4) hx hb dX14_readCells_15 li_4 ?_
    obtain ⟨rr33, hrr33, hf⟩ := bind_s hf
    refine g0_cV (rm := (0, 0)) (As := [.int (4 : Int32)]) (rest := []) ⟨hx, hb, hml, hown, hts⟩ hG hR hS (m14_bad l G K (ov I [(1105, o, i_to), (1106, o, i_from), (1107, o, i_kind), (1108, o, i_number), (1109, o, i_sign), (1110, o, i_fault), (1111, o, i_at)]) (ov J [(1112, o, j_word)]) X (ova A [((o + 1), a_tape), ((o + 3), a_read)]) B Q o shM (4 : Int32) i_from i_kind i_fault i_at (ov_get 1 rfl rfl) (ov_get 2 rfl rfl) (ov_get 5 rfl rfl) (ov_get 6 rfl rfl) rr33 hrr33) (cwV 1 hts gi_X14_216 rfl rfl rfl hd_X14_bad ⟨Nat.le_of_ble_eq_true rfl, Nat.le_of_ble_eq_true rfl⟩) shM.1 rfl rfl hl.1 (Nat.le_of_ble_eq_true rfl) dX14_readCells_16 ⟨Nat.le_refl _, Nat.le_refl _⟩ rfl (fun H locs hR hS => ?_)
    have hR : RS G K (ov I [(1105, o, i_to), (1106, o, i_from), (1107, o, i_kind), (1108, o, i_number), (1109, o, i_sign), (1110, o, rr33.2.1), (1111, o, rr33.2.2)]) (ov J [(1112, o, j_word)]) X (ova A [((o + 1), a_tape), ((o + 3), a_read)]) B Q H := hR.to (ov_merge (l := [(1105, o, i_to), (1106, o, i_from), (1107, o, i_kind), (1108, o, i_number), (1109, o, i_sign), (1110, o, i_fault), (1111, o, i_at)]) rfl [5, 6] [(1110, o, rr33.2.1), (1111, o, rr33.2.2)] rfl rfl) rfl rfl rfl rfl rfl
    obtain ⟨hz9, hf⟩ := gd_some hf
    obtain rfl := some_i hf
    exact hend _ _ _ _ dX14_readCells_19 (congrArg Value.int hz9) hR hS
noncomputable def f14_readBurn_j81 (rr5 : Int32 × Int32 × Int32 × Int32 × Int32 × Int32 × Int32 × Int32 × Int32 × Int64) (j81_i_to : Int32) (j81_i_from : Int32) (j81_i_kind : Int32) (j81_i_number : Int32) (j81_i_sign : Int32) (j81_i_fault : Int32) (j81_i_at : Int32) (j81_j_word : Int64) (j81_a_read : Nat → Int32) : Option (Int32 × Int32 × Int32 × Int32 × Int32 × Int32 × Int32 × Int32 × Int32 × Int64 × (Nat → Int32)) :=
  (f14_bad (2 : Int32) j81_i_from j81_i_kind j81_i_fault j81_i_at).bind fun rr10 =>
  gd (rr10.1 &&& 1 = rr10.1) <|
  some (rr10.1, j81_i_to, j81_i_from, j81_i_kind, j81_i_number, j81_i_sign, rr10.2.1, rr10.2.2, rr5.2.2.2.2.2.2.2.2.1, j81_j_word, j81_a_read)

noncomputable def f14_readBurn (i_size : Int32) (i_limit : Int32) (i_to : Int32) (i_from : Int32) (i_kind : Int32) (i_number : Int32) (i_sign : Int32) (i_fault : Int32) (i_at : Int32) (i_told : Int32) (j_word : Int64) (a_tape : Nat → Int32) (a_read : Nat → Int32) : Option (Int32 × Int32 × Int32 × Int32 × Int32 × Int32 × Int32 × Int32 × Int32 × Int64 × (Nat → Int32)) :=
  (f14_go i_size i_limit i_to i_from i_kind i_number i_sign j_word a_tape).bind fun rr1 =>
  gd (inb (9 : Int32) 200) <|
  lt (a_read (9 : Int32).toNatClampNeg) fun v3 =>
  lt (v3 - (1 : Int32)) fun v4 =>
  (f14_readNumber (0 : Int32) v4 i_size i_limit rr1.1 rr1.2.1 rr1.2.2.1 rr1.2.2.2.1 rr1.2.2.2.2.1 i_fault i_at i_told rr1.2.2.2.2.2 a_tape).bind fun rr5 =>
  if rr5.1 = 0 then
    some ((0 : Int32), rr5.2.1, rr5.2.2.1, rr5.2.2.2.1, rr5.2.2.2.2.1, rr5.2.2.2.2.2.1, rr5.2.2.2.2.2.2.1, rr5.2.2.2.2.2.2.2.1, rr5.2.2.2.2.2.2.2.2.1, rr5.2.2.2.2.2.2.2.2.2, a_read)
  else
    if rr5.2.2.2.1 = (3 : Int32) then
      gd (inb (10 : Int32) 200) <|
      lt (a_read (10 : Int32).toNatClampNeg) fun v9 =>
      if v9 ≤ rr5.2.2.2.2.1 then
        f14_readBurn_j81 rr5 rr5.2.1 rr5.2.2.1 rr5.2.2.2.1 rr5.2.2.2.2.1 rr5.2.2.2.2.2.1 rr5.2.2.2.2.2.2.1 rr5.2.2.2.2.2.2.2.1 rr5.2.2.2.2.2.2.2.2.2 a_read
      else
        gd (inb (9 : Int32) 200) <|
        lt (a_read (9 : Int32).toNatClampNeg) fun v13 =>
        lt (v13 * rr5.2.2.2.2.1) fun v14 =>
        lt ((60 : Int32) + v14) fun v15 =>
        lt (v15 + rr5.2.2.2.2.2.2.2.2.1) fun v16 =>
        gd (inb v16 200) <|
        lt (a_read v16.toNatClampNeg) fun v18 =>
        if v18 = 0 then
          f14_readBurn_j81 rr5 rr5.2.1 rr5.2.2.1 rr5.2.2.2.1 rr5.2.2.2.2.1 rr5.2.2.2.2.2.1 rr5.2.2.2.2.2.2.1 rr5.2.2.2.2.2.2.2.1 rr5.2.2.2.2.2.2.2.2.2 a_read
        else
          gd (inb (9 : Int32) 200) <|
          lt (a_read (9 : Int32).toNatClampNeg) fun v21 =>
          lt (v21 * rr5.2.2.2.2.1) fun v22 =>
          lt (v22 + rr5.2.2.2.2.2.2.2.2.1) fun v23 =>
          lt ((130 : Int32) + v23) fun v24 =>
          gd (inb v24 200) <|
          lt (a_read v24.toNatClampNeg) fun v26 =>
          if v26 = (1 : Int32) then
            (f14_bad (3 : Int32) rr5.2.2.1 rr5.2.2.2.1 rr5.2.2.2.2.2.2.1 rr5.2.2.2.2.2.2.2.1).bind fun rr32 =>
            gd (rr32.1 &&& 1 = rr32.1) <|
            some (rr32.1, rr5.2.1, rr5.2.2.1, rr5.2.2.2.1, rr5.2.2.2.2.1, rr5.2.2.2.2.2.1, rr32.2.1, rr32.2.2, rr5.2.2.2.2.2.2.2.2.1, rr5.2.2.2.2.2.2.2.2.2, a_read)
          else
            lt ((130 : Int32) + v23) fun v28 =>
            gd (inb v28 200) <|
            lt (upd a_read v28.toNatClampNeg (1 : Int32)) fun u30 =>
            (f14_go i_size i_limit rr5.2.1 rr5.2.2.1 rr5.2.2.2.1 rr5.2.2.2.2.1 rr5.2.2.2.2.2.1 rr5.2.2.2.2.2.2.2.2.2 a_tape).bind fun rr31 =>
            some ((1 : Int32), rr31.1, rr31.2.1, rr31.2.2.1, rr31.2.2.2.1, rr31.2.2.2.2.1, rr5.2.2.2.2.2.2.1, rr5.2.2.2.2.2.2.2.1, rr5.2.2.2.2.2.2.2.2.1, rr31.2.2.2.2.2, u30)
    else
      (f14_bad (1 : Int32) rr5.2.2.1 rr5.2.2.2.1 rr5.2.2.2.2.2.2.1 rr5.2.2.2.2.2.2.2.1).bind fun rr33 =>
      gd (rr33.1 &&& 1 = rr33.1) <|
      some (rr33.1, rr5.2.1, rr5.2.2.1, rr5.2.2.2.1, rr5.2.2.2.2.1, rr5.2.2.2.2.2.1, rr33.2.1, rr33.2.2, rr5.2.2.2.2.2.2.2.2.1, rr5.2.2.2.2.2.2.2.2.2, a_read)
set_option maxHeartbeats 4000000 in
theorem m14_readBurn (l : Launch) (G : gG) (K : gK) (I : gI) (J : gJ) (X : gX) (A : gI) (B : gJ) (Q : gX) (o : Nat) (shM : Sh K X o 11 rows11)  (i_size : Int32) (i_limit : Int32) (i_to : Int32) (i_from : Int32) (i_kind : Int32) (i_number : Int32) (i_sign : Int32) (i_fault : Int32) (i_at : Int32) (i_told : Int32) (j_word : Int64) (a_tape : Nat → Int32) (a_read : Nat → Int32) (e_i_size : I 1103 o = i_size) (e_i_limit : I 1104 o = i_limit) (e_i_to : I 1105 o = i_to) (e_i_from : I 1106 o = i_from) (e_i_kind : I 1107 o = i_kind) (e_i_number : I 1108 o = i_number) (e_i_sign : I 1109 o = i_sign) (e_i_fault : I 1110 o = i_fault) (e_i_at : I 1111 o = i_at) (e_i_told : I 1113 o = i_told) (e_j_word : J 1112 o = j_word) (e_a_tape : A (o + 1) = a_tape) (e_a_read : A (o + 3) = a_read) (out : Int32 × Int32 × Int32 × Int32 × Int32 × Int32 × Int32 × Int32 × Int32 × Int64 × (Nat → Int32)) (hf : f14_readBurn i_size i_limit i_to i_from i_kind i_number i_sign i_fault i_at i_told j_word a_tape a_read = some out) : GMet l yX14_readBurn cX14_readBurn 3 (some .boolean) (3) (67) G [.ref o] K I J X A B Q (some (.int out.1)) K (ov I [(1105, o, out.2.1), (1106, o, out.2.2.1), (1107, o, out.2.2.2.1), (1108, o, out.2.2.2.2.1), (1109, o, out.2.2.2.2.2.1), (1110, o, out.2.2.2.2.2.2.1), (1111, o, out.2.2.2.2.2.2.2.1), (1113, o, out.2.2.2.2.2.2.2.2.1)]) (ov J [(1112, o, out.2.2.2.2.2.2.2.2.2.1)]) X (ova A [((o + 1), a_tape), ((o + 3), out.2.2.2.2.2.2.2.2.2.2)]) B Q 0 0 := by
  refine GMet.of (y := yX14_readBurn) rfl (Nat.le_of_ble_eq_true rfl) rfl ?_
  intro p e s m below meth c ls hx hb hr hml hlocks hts hown hname hG hR hl
  have hown : s.vm.findClass RX14 = some m.cls := hown
  have k_a_tape : K (o + 1) = some (.inr (0, 740)) := (shM.2 0 _ rfl).1
  have k_a_read : K (o + 3) = some (.inr (0, 200)) := (shM.2 2 _ rfl).1
  have hN_A : nda [(o + 1), (o + 3)] := nd_off o [1, 3] rfl
  have hR : RS G K (ov I [(1105, o, i_to), (1106, o, i_from), (1107, o, i_kind), (1108, o, i_number), (1109, o, i_sign), (1110, o, i_fault), (1111, o, i_at), (1113, o, i_told)]) (ov J [(1112, o, j_word)]) X (ova A [((o + 1), a_tape), ((o + 3), a_read)]) B Q s.heap := hR.to (Eq.symm (ov_sc e_i_to (ov_sc e_i_from (ov_sc e_i_kind (ov_sc e_i_number (ov_sc e_i_sign (ov_sc e_i_fault (ov_sc e_i_at (ov_sc e_i_told rfl))))))))) (Eq.symm (ov_sc e_j_word rfl)) rfl (Eq.symm (ova_sc e_a_tape (ova_sc e_a_read rfl))) rfl rfl
  have hS : va_S (gA G) s.heap s.heap [] := va_S.rf
  have hend : ∀ (pc : Nat) (H : Heap) (locs : List Loc) (ls : Array Slot), decode cX14_readBurn pc = .ok (.ireturn, 1) → narrow .boolean (.int out.1) = .int out.1 → RS G K (ov I [(1105, o, out.2.1), (1106, o, out.2.2.1), (1107, o, out.2.2.2.1), (1108, o, out.2.2.2.2.1), (1109, o, out.2.2.2.2.2.1), (1110, o, out.2.2.2.2.2.2.1), (1111, o, out.2.2.2.2.2.2.2.1), (1113, o, out.2.2.2.2.2.2.2.2.1)]) (ov J [(1112, o, out.2.2.2.2.2.2.2.2.2.1)]) X (ova A [((o + 1), a_tape), ((o + 3), out.2.2.2.2.2.2.2.2.2.2)]) B Q H → va_S (gA G) s.heap H locs → W p l e ({ frames := 3, cells := 0, slots := 0, locals := 67 } : Room) s m ([.ref o] : List Value).toArray below meth c H locs 0 0 (MQ below (gQ G (some (.int out.1)) K (ov I [(1105, o, out.2.1), (1106, o, out.2.2.1), (1107, o, out.2.2.2.1), (1108, o, out.2.2.2.2.1), (1109, o, out.2.2.2.2.2.1), (1110, o, out.2.2.2.2.2.2.1), (1111, o, out.2.2.2.2.2.2.2.1), (1113, o, out.2.2.2.2.2.2.2.2.1)]) (ov J [(1112, o, out.2.2.2.2.2.2.2.2.2.1)]) X (ova A [((o + 1), a_tape), ((o + 3), out.2.2.2.2.2.2.2.2.2.2)]) B Q) ([.ref o] : List Value).toArray s 0 0 (gA G)) (F0 m pc ls [.int out.1]) := fun pc H locs ls hd hz hR hS => g_zret hx hb hr hlocks hz hG hR hS rfl hd
  generalize MQ below (gQ G (some (.int out.1)) K (ov I [(1105, o, out.2.1), (1106, o, out.2.2.1), (1107, o, out.2.2.2.1), (1108, o, out.2.2.2.2.1), (1109, o, out.2.2.2.2.2.1), (1110, o, out.2.2.2.2.2.2.1), (1111, o, out.2.2.2.2.2.2.2.1), (1113, o, out.2.2.2.2.2.2.2.2.1)]) (ov J [(1112, o, out.2.2.2.2.2.2.2.2.2.1)]) X (ova A [((o + 1), a_tape), ((o + 3), out.2.2.2.2.2.2.2.2.2.2)]) B Q) ([.ref o] : List Value).toArray s 0 0 (gA G) = Z at hend ⊢
  generalize ([.ref o] : List Value).toArray = args at hts hend ⊢
  unfold f14_readBurn at hf
  refine lv_aload_n hx hb dX14_readBurn_0 rfl (lv_at hl 0 rfl) ?_
  obtain ⟨rr1, hrr1, hf⟩ := bind_s hf
  refine g0_cVv (rm := (1, 21)) (As := []) (rest := []) ⟨hx, hb, hml, hown, hts⟩ hG hR hS (m14_go l G K (ov I [(1105, o, i_to), (1106, o, i_from), (1107, o, i_kind), (1108, o, i_number), (1109, o, i_sign), (1110, o, i_fault), (1111, o, i_at), (1113, o, i_told)]) (ov J [(1112, o, j_word)]) X (ova A [((o + 1), a_tape), ((o + 3), a_read)]) B Q o shM i_size i_limit i_to i_from i_kind i_number i_sign j_word a_tape ((congrFun (ov_no rfl) _).trans e_i_size) ((congrFun (ov_no rfl) _).trans e_i_limit) (ov_get 0 rfl rfl) (ov_get 1 rfl rfl) (ov_get 2 rfl rfl) (ov_get 3 rfl rfl) (ov_get 4 rfl rfl) (ov_get 0 rfl rfl) (ova_get 0 hN_A rfl) rr1 hrr1) (cwV 0 hts gi_X14_226 rfl rfl rfl hd_X14_go ⟨Nat.le_of_ble_eq_true rfl, Nat.le_of_ble_eq_true rfl⟩) shM.1 rfl rfl hl.1 (Nat.le_of_ble_eq_true rfl) dX14_readBurn_1 ⟨Nat.le_refl _, Nat.le_refl _⟩ rfl (fun H locs hR hS => ?_)
  have hR : RS G K (ov I [(1105, o, rr1.1), (1106, o, rr1.2.1), (1107, o, rr1.2.2.1), (1108, o, rr1.2.2.2.1), (1109, o, rr1.2.2.2.2.1), (1110, o, i_fault), (1111, o, i_at), (1113, o, i_told)]) (ov J [(1112, o, rr1.2.2.2.2.2)]) X (ova A [((o + 1), a_tape), ((o + 3), a_read)]) B Q H := hR.to (ov_merge (l := [(1105, o, i_to), (1106, o, i_from), (1107, o, i_kind), (1108, o, i_number), (1109, o, i_sign), (1110, o, i_fault), (1111, o, i_at), (1113, o, i_told)]) rfl [0, 1, 2, 3, 4] [(1105, o, rr1.1), (1106, o, rr1.2.1), (1107, o, rr1.2.2.1), (1108, o, rr1.2.2.2.1), (1109, o, rr1.2.2.2.2.1)] rfl rfl) (ov_merge (l := [(1112, o, j_word)]) rfl [0] [(1112, o, rr1.2.2.2.2.2)] rfl rfl) rfl rfl rfl rfl
  refine lv_aload_n hx hb dX14_readBurn_4 rfl (lv_at hl 0 rfl) ?_
  refine lv_iconst (v := 0) hx hb dX14_readBurn_5 li_0 ?_
  refine lv_aload_n hx hb dX14_readBurn_6 rfl (lv_at hl 0 rfl) ?_
  refine g_getr (b := (o + 3)) hx hb hts hown hG hR gFx_X14_16_11 shM.1 ((shM.2 2 _ rfl).2) dX14_readBurn_7 ?_
  refine lv_bipush (v := 9) hx hb dX14_readBurn_10 lb_9 ?_
  obtain ⟨c2, hf⟩ := gd_some hf
  obtain ⟨v3, ev3, hf⟩ := lt_some hf
  refine n_iald (x := a_read) hx hb hG hR k_a_read c2 (ova_get 1 hN_A rfl) ev3 dX14_readBurn_12 ?_
  refine lv_iconst (v := 1) hx hb dX14_readBurn_13 li_1 ?_
  obtain ⟨v4, ev4, hf⟩ := lt_some hf
  refine n_isub hx hb ev4 dX14_readBurn_14 ?_
  obtain ⟨rr5, hrr5, hf⟩ := bind_s hf
  refine g0_cV (rm := (2, 45)) (As := [.int (0 : Int32), .int v4]) (rest := []) ⟨hx, hb, hml, hown, hts⟩ hG hR hS (m14_readNumber l G K (ov I [(1105, o, rr1.1), (1106, o, rr1.2.1), (1107, o, rr1.2.2.1), (1108, o, rr1.2.2.2.1), (1109, o, rr1.2.2.2.2.1), (1110, o, i_fault), (1111, o, i_at), (1113, o, i_told)]) (ov J [(1112, o, rr1.2.2.2.2.2)]) X (ova A [((o + 1), a_tape), ((o + 3), a_read)]) B Q o shM (0 : Int32) v4 i_size i_limit rr1.1 rr1.2.1 rr1.2.2.1 rr1.2.2.2.1 rr1.2.2.2.2.1 i_fault i_at i_told rr1.2.2.2.2.2 a_tape ((congrFun (ov_no rfl) _).trans e_i_size) ((congrFun (ov_no rfl) _).trans e_i_limit) (ov_get 0 rfl rfl) (ov_get 1 rfl rfl) (ov_get 2 rfl rfl) (ov_get 3 rfl rfl) (ov_get 4 rfl rfl) (ov_get 5 rfl rfl) (ov_get 6 rfl rfl) (ov_get 7 rfl rfl) (ov_get 0 rfl rfl) (ova_get 0 hN_A rfl) rr5 hrr5) (cwV 2 hts gi_X14_251 rfl rfl rfl hd_X14_readNumber ⟨Nat.le_of_ble_eq_true rfl, Nat.le_of_ble_eq_true rfl⟩) shM.1 rfl rfl hl.1 (Nat.le_of_ble_eq_true rfl) dX14_readBurn_15 ⟨Nat.le_refl _, Nat.le_refl _⟩ rfl (fun H locs hR hS => ?_)
  have hR : RS G K (ov I [(1105, o, rr5.2.1), (1106, o, rr5.2.2.1), (1107, o, rr5.2.2.2.1), (1108, o, rr5.2.2.2.2.1), (1109, o, rr5.2.2.2.2.2.1), (1110, o, rr5.2.2.2.2.2.2.1), (1111, o, rr5.2.2.2.2.2.2.2.1), (1113, o, rr5.2.2.2.2.2.2.2.2.1)]) (ov J [(1112, o, rr5.2.2.2.2.2.2.2.2.2)]) X (ova A [((o + 1), a_tape), ((o + 3), a_read)]) B Q H := hR.to (ov_merge (l := [(1105, o, rr1.1), (1106, o, rr1.2.1), (1107, o, rr1.2.2.1), (1108, o, rr1.2.2.2.1), (1109, o, rr1.2.2.2.2.1), (1110, o, i_fault), (1111, o, i_at), (1113, o, i_told)]) rfl [0, 1, 2, 3, 4, 5, 6, 7] [(1105, o, rr5.2.1), (1106, o, rr5.2.2.1), (1107, o, rr5.2.2.2.1), (1108, o, rr5.2.2.2.2.1), (1109, o, rr5.2.2.2.2.2.1), (1110, o, rr5.2.2.2.2.2.2.1), (1111, o, rr5.2.2.2.2.2.2.2.1), (1113, o, rr5.2.2.2.2.2.2.2.2.1)] rfl rfl) (ov_merge (l := [(1112, o, rr1.2.2.2.2.2)]) rfl [0] [(1112, o, rr5.2.2.2.2.2.2.2.2.2)] rfl rfl) rfl rfl rfl rfl
  refine lv_if_ne (tgt := 23) hx hb dX14_readBurn_18 (by decide) (fun c6 => ?_) (fun c6 => ?_)
  · have hf := ite_f c6 hf
    refine lv_aload_n hx hb dX14_readBurn_23 rfl (lv_at hl 0 rfl) ?_
    refine n_geti (v := rr5.2.2.2.2.2.2.2.2.1) hx hb hts hown hG hR gFi_X14_223_11 shM.1 (ov_get 7 rfl rfl) dX14_readBurn_24 ?_
    refine lv_istore_n (lv' := [(1, .int rr5.2.2.2.2.2.2.2.2.1), (0, .ref o)]) hx hb dX14_readBurn_27 rfl hl (by decide) rfl (fun ls hl => ?_)
    refine lv_aload_n hx hb dX14_readBurn_28 rfl (lv_at hl 1 rfl) ?_
    refine n_geti (v := rr5.2.2.2.1) hx hb hts hown hG hR gFi_X14_170_11 shM.1 (ov_get 2 rfl rfl) dX14_readBurn_29 ?_
    refine lv_iconst (v := 3) hx hb dX14_readBurn_32 li_3 ?_
    refine lv_icmp_eq (tgt := 42) hx hb dX14_readBurn_33 (by decide) (fun c7 => ?_) (fun c7 => ?_)
    · have hf := ite_t c7 hf
      refine lv_aload_n hx hb dX14_readBurn_42 rfl (lv_at hl 1 rfl) ?_
      refine n_geti (v := rr5.2.2.2.2.1) hx hb hts hown hG hR gFi_X14_187_11 shM.1 (ov_get 3 rfl rfl) dX14_readBurn_43 ?_
      refine lv_aload_n hx hb dX14_readBurn_46 rfl (lv_at hl 1 rfl) ?_
      refine g_getr (b := (o + 3)) hx hb hts hown hG hR gFx_X14_16_11 shM.1 ((shM.2 2 _ rfl).2) dX14_readBurn_47 ?_
      refine lv_bipush (v := 10) hx hb dX14_readBurn_50 lb_10 ?_
      obtain ⟨c8, hf⟩ := gd_some hf
      obtain ⟨v9, ev9, hf⟩ := lt_some hf
      refine n_iald (x := a_read) hx hb hG hR k_a_read c8 (ova_get 1 hN_A rfl) ev9 dX14_readBurn_52 ?_
      have hj81 : ∀ (j81_i_to : Int32) (j81_i_from : Int32) (j81_i_kind : Int32) (j81_i_number : Int32) (j81_i_sign : Int32) (j81_i_fault : Int32) (j81_i_at : Int32) (j81_j_word : Int64) (j81_a_read : Nat → Int32), f14_readBurn_j81 rr5 j81_i_to j81_i_from j81_i_kind j81_i_number j81_i_sign j81_i_fault j81_i_at j81_j_word j81_a_read = some out → ∀ (H : Heap) (locs : List Loc) (ls : Array Slot), RS G K (ov I [(1105, o, j81_i_to), (1106, o, j81_i_from), (1107, o, j81_i_kind), (1108, o, j81_i_number), (1109, o, j81_i_sign), (1110, o, j81_i_fault), (1111, o, j81_i_at), (1113, o, rr5.2.2.2.2.2.2.2.2.1)]) (ov J [(1112, o, j81_j_word)]) X (ova A [((o + 1), a_tape), ((o + 3), j81_a_read)]) B Q H → va_S (gA G) s.heap H locs → lv_has ls 3 [(0, .ref o)] → W p l e ({ frames := 3, cells := 0, slots := 0, locals := 67 } : Room) s m args below meth c H locs 0 0 Z (F0 m 81 ls []) := by
        intro j81_i_to j81_i_from j81_i_kind j81_i_number j81_i_sign j81_i_fault j81_i_at j81_j_word j81_a_read hf H locs ls hR hS hl
        unfold f14_readBurn_j81 at hf
        refine lv_aload_n hx hb dX14_readBurn_81 rfl (lv_at hl 0 rfl) ?_
        refine lv_iconst (v := 2) hx hb dX14_readBurn_82 li_2 ?_
        obtain ⟨rr10, hrr10, hf⟩ := bind_s hf
        refine g0_cV (rm := (0, 0)) (As := [.int (2 : Int32)]) (rest := []) ⟨hx, hb, hml, hown, hts⟩ hG hR hS (m14_bad l G K (ov I [(1105, o, j81_i_to), (1106, o, j81_i_from), (1107, o, j81_i_kind), (1108, o, j81_i_number), (1109, o, j81_i_sign), (1110, o, j81_i_fault), (1111, o, j81_i_at), (1113, o, rr5.2.2.2.2.2.2.2.2.1)]) (ov J [(1112, o, j81_j_word)]) X (ova A [((o + 1), a_tape), ((o + 3), j81_a_read)]) B Q o shM (2 : Int32) j81_i_from j81_i_kind j81_i_fault j81_i_at (ov_get 1 rfl rfl) (ov_get 2 rfl rfl) (ov_get 5 rfl rfl) (ov_get 6 rfl rfl) rr10 hrr10) (cwV 1 hts gi_X14_216 rfl rfl rfl hd_X14_bad ⟨Nat.le_of_ble_eq_true rfl, Nat.le_of_ble_eq_true rfl⟩) shM.1 rfl rfl hl.1 (Nat.le_of_ble_eq_true rfl) dX14_readBurn_83 ⟨Nat.le_refl _, Nat.le_refl _⟩ rfl (fun H locs hR hS => ?_)
        have hR : RS G K (ov I [(1105, o, j81_i_to), (1106, o, j81_i_from), (1107, o, j81_i_kind), (1108, o, j81_i_number), (1109, o, j81_i_sign), (1110, o, rr10.2.1), (1111, o, rr10.2.2), (1113, o, rr5.2.2.2.2.2.2.2.2.1)]) (ov J [(1112, o, j81_j_word)]) X (ova A [((o + 1), a_tape), ((o + 3), j81_a_read)]) B Q H := hR.to (ov_merge (l := [(1105, o, j81_i_to), (1106, o, j81_i_from), (1107, o, j81_i_kind), (1108, o, j81_i_number), (1109, o, j81_i_sign), (1110, o, j81_i_fault), (1111, o, j81_i_at), (1113, o, rr5.2.2.2.2.2.2.2.2.1)]) rfl [5, 6] [(1110, o, rr10.2.1), (1111, o, rr10.2.2)] rfl rfl) rfl rfl rfl rfl rfl
        obtain ⟨hz9, hf⟩ := gd_some hf
        obtain rfl := some_i hf
        exact hend _ _ _ _ dX14_readBurn_86 (congrArg Value.int hz9) hR hS
      refine lv_icmp_ge (tgt := 81) hx hb dX14_readBurn_53 (by decide) (fun c11 => ?_) (fun c11 => ?_)
      · have hf := ite_t c11 hf
        exact hj81 rr5.2.1 rr5.2.2.1 rr5.2.2.2.1 rr5.2.2.2.2.1 rr5.2.2.2.2.2.1 rr5.2.2.2.2.2.2.1 rr5.2.2.2.2.2.2.2.1 rr5.2.2.2.2.2.2.2.2.2 a_read hf _ _ _ hR hS (lv_sub hl [1] rfl)
      · have hf := ite_f c11 hf
        refine lv_aload_n hx hb dX14_readBurn_56 rfl (lv_at hl 1 rfl) ?_
        refine g_getr (b := (o + 3)) hx hb hts hown hG hR gFx_X14_16_11 shM.1 ((shM.2 2 _ rfl).2) dX14_readBurn_57 ?_
        refine lv_bipush (v := 60) hx hb dX14_readBurn_60 lb_60 ?_
        refine lv_aload_n hx hb dX14_readBurn_62 rfl (lv_at hl 1 rfl) ?_
        refine g_getr (b := (o + 3)) hx hb hts hown hG hR gFx_X14_16_11 shM.1 ((shM.2 2 _ rfl).2) dX14_readBurn_63 ?_
        refine lv_bipush (v := 9) hx hb dX14_readBurn_66 lb_9 ?_
        obtain ⟨c12, hf⟩ := gd_some hf
        obtain ⟨v13, ev13, hf⟩ := lt_some hf
        refine n_iald (x := a_read) hx hb hG hR k_a_read c12 (ova_get 1 hN_A rfl) ev13 dX14_readBurn_68 ?_
        refine lv_aload_n hx hb dX14_readBurn_69 rfl (lv_at hl 1 rfl) ?_
        refine n_geti (v := rr5.2.2.2.2.1) hx hb hts hown hG hR gFi_X14_187_11 shM.1 (ov_get 3 rfl rfl) dX14_readBurn_70 ?_
        obtain ⟨v14, ev14, hf⟩ := lt_some hf
        refine n_imul hx hb ev14 dX14_readBurn_73 ?_
        obtain ⟨v15, ev15, hf⟩ := lt_some hf
        refine n_iadd hx hb ev15 dX14_readBurn_74 ?_
        refine lv_iload_n hx hb dX14_readBurn_75 rfl (lv_at hl 0 rfl) ?_
        obtain ⟨v16, ev16, hf⟩ := lt_some hf
        refine n_iadd hx hb ev16 dX14_readBurn_76 ?_
        obtain ⟨c17, hf⟩ := gd_some hf
        obtain ⟨v18, ev18, hf⟩ := lt_some hf
        refine n_iald (x := a_read) hx hb hG hR k_a_read c17 (ova_get 1 hN_A rfl) ev18 dX14_readBurn_77 ?_
        refine lv_if_ne (tgt := 87) hx hb dX14_readBurn_78 (by decide) (fun c19 => ?_) (fun c19 => ?_)
        · have hf := ite_f c19 hf
          refine lv_aload_n hx hb dX14_readBurn_87 rfl (lv_at hl 1 rfl) ?_
          refine g_getr (b := (o + 3)) hx hb hts hown hG hR gFx_X14_16_11 shM.1 ((shM.2 2 _ rfl).2) dX14_readBurn_88 ?_
          refine lv_bipush (v := 9) hx hb dX14_readBurn_91 lb_9 ?_
          obtain ⟨c20, hf⟩ := gd_some hf
          obtain ⟨v21, ev21, hf⟩ := lt_some hf
          refine n_iald (x := a_read) hx hb hG hR k_a_read c20 (ova_get 1 hN_A rfl) ev21 dX14_readBurn_93 ?_
          refine lv_aload_n hx hb dX14_readBurn_94 rfl (lv_at hl 1 rfl) ?_
          refine n_geti (v := rr5.2.2.2.2.1) hx hb hts hown hG hR gFi_X14_187_11 shM.1 (ov_get 3 rfl rfl) dX14_readBurn_95 ?_
          obtain ⟨v22, ev22, hf⟩ := lt_some hf
          refine n_imul hx hb ev22 dX14_readBurn_98 ?_
          refine lv_iload_n hx hb dX14_readBurn_99 rfl (lv_at hl 0 rfl) ?_
          obtain ⟨v23, ev23, hf⟩ := lt_some hf
          refine n_iadd hx hb ev23 dX14_readBurn_100 ?_
          refine lv_istore_n (lv' := [(2, .int v23), (1, .int rr5.2.2.2.2.2.2.2.2.1), (0, .ref o)]) hx hb dX14_readBurn_101 rfl hl (by decide) rfl (fun ls hl => ?_)
          refine lv_aload_n hx hb dX14_readBurn_102 rfl (lv_at hl 2 rfl) ?_
          refine g_getr (b := (o + 3)) hx hb hts hown hG hR gFx_X14_16_11 shM.1 ((shM.2 2 _ rfl).2) dX14_readBurn_103 ?_
          refine lv_sipush (v := 130) hx hb dX14_readBurn_106 ls_130 ?_
          refine lv_iload_n hx hb dX14_readBurn_109 rfl (lv_at hl 0 rfl) ?_
          obtain ⟨v24, ev24, hf⟩ := lt_some hf
          refine n_iadd hx hb ev24 dX14_readBurn_110 ?_
          obtain ⟨c25, hf⟩ := gd_some hf
          obtain ⟨v26, ev26, hf⟩ := lt_some hf
          refine n_iald (x := a_read) hx hb hG hR k_a_read c25 (ova_get 1 hN_A rfl) ev26 dX14_readBurn_111 ?_
          refine lv_iconst (v := 1) hx hb dX14_readBurn_112 li_1 ?_
          refine lv_icmp_ne (tgt := 122) hx hb dX14_readBurn_113 (by decide) (fun c27 => ?_) (fun c27 => ?_)
          · have hf := ite_f c27 hf
            refine lv_aload_n hx hb dX14_readBurn_122 rfl (lv_at hl 2 rfl) ?_
            refine g_getr (b := (o + 3)) hx hb hts hown hG hR gFx_X14_16_11 shM.1 ((shM.2 2 _ rfl).2) dX14_readBurn_123 ?_
            refine lv_sipush (v := 130) hx hb dX14_readBurn_126 ls_130 ?_
            refine lv_iload_n hx hb dX14_readBurn_129 rfl (lv_at hl 0 rfl) ?_
            obtain ⟨v28, ev28, hf⟩ := lt_some hf
            refine n_iadd hx hb ev28 dX14_readBurn_130 ?_
            refine lv_iconst (v := 1) hx hb dX14_readBurn_131 li_1 ?_
            obtain ⟨c29, hf⟩ := gd_some hf
            obtain ⟨u30, eu30, hf⟩ := lt_some hf
            refine n_iast (la' := [((o + 1), a_tape), ((o + 3), u30)]) hx hb hG hR hS k_a_read c29 hN_A 1 rfl eu30 rfl dX14_readBurn_132 (fun H locs hR hS => ?_)
            refine lv_aload_n hx hb dX14_readBurn_133 rfl (lv_at hl 2 rfl) ?_
            obtain ⟨rr31, hrr31, hf⟩ := bind_s hf
            refine g0_cVv (rm := (1, 21)) (As := []) (rest := []) ⟨hx, hb, hml, hown, hts⟩ hG hR hS (m14_go l G K (ov I [(1105, o, rr5.2.1), (1106, o, rr5.2.2.1), (1107, o, rr5.2.2.2.1), (1108, o, rr5.2.2.2.2.1), (1109, o, rr5.2.2.2.2.2.1), (1110, o, rr5.2.2.2.2.2.2.1), (1111, o, rr5.2.2.2.2.2.2.2.1), (1113, o, rr5.2.2.2.2.2.2.2.2.1)]) (ov J [(1112, o, rr5.2.2.2.2.2.2.2.2.2)]) X (ova A [((o + 1), a_tape), ((o + 3), u30)]) B Q o shM i_size i_limit rr5.2.1 rr5.2.2.1 rr5.2.2.2.1 rr5.2.2.2.2.1 rr5.2.2.2.2.2.1 rr5.2.2.2.2.2.2.2.2.2 a_tape ((congrFun (ov_no rfl) _).trans e_i_size) ((congrFun (ov_no rfl) _).trans e_i_limit) (ov_get 0 rfl rfl) (ov_get 1 rfl rfl) (ov_get 2 rfl rfl) (ov_get 3 rfl rfl) (ov_get 4 rfl rfl) (ov_get 0 rfl rfl) (ova_get 0 hN_A rfl) rr31 hrr31) (cwV 0 hts gi_X14_226 rfl rfl rfl hd_X14_go ⟨Nat.le_of_ble_eq_true rfl, Nat.le_of_ble_eq_true rfl⟩) shM.1 rfl rfl hl.1 (Nat.le_of_ble_eq_true rfl) dX14_readBurn_134 ⟨Nat.le_refl _, Nat.le_refl _⟩ rfl (fun H locs hR hS => ?_)
            have hR : RS G K (ov I [(1105, o, rr31.1), (1106, o, rr31.2.1), (1107, o, rr31.2.2.1), (1108, o, rr31.2.2.2.1), (1109, o, rr31.2.2.2.2.1), (1110, o, rr5.2.2.2.2.2.2.1), (1111, o, rr5.2.2.2.2.2.2.2.1), (1113, o, rr5.2.2.2.2.2.2.2.2.1)]) (ov J [(1112, o, rr31.2.2.2.2.2)]) X (ova A [((o + 1), a_tape), ((o + 3), u30)]) B Q H := hR.to (ov_merge (l := [(1105, o, rr5.2.1), (1106, o, rr5.2.2.1), (1107, o, rr5.2.2.2.1), (1108, o, rr5.2.2.2.2.1), (1109, o, rr5.2.2.2.2.2.1), (1110, o, rr5.2.2.2.2.2.2.1), (1111, o, rr5.2.2.2.2.2.2.2.1), (1113, o, rr5.2.2.2.2.2.2.2.2.1)]) rfl [0, 1, 2, 3, 4] [(1105, o, rr31.1), (1106, o, rr31.2.1), (1107, o, rr31.2.2.1), (1108, o, rr31.2.2.2.1), (1109, o, rr31.2.2.2.2.1)] rfl rfl) (ov_merge (l := [(1112, o, rr5.2.2.2.2.2.2.2.2.2)]) rfl [0] [(1112, o, rr31.2.2.2.2.2)] rfl rfl) rfl rfl rfl rfl
            refine lv_iconst (v := 1) hx hb dX14_readBurn_137 li_1 ?_
            obtain rfl := some_i hf
            exact hend _ _ _ _ dX14_readBurn_138 nz_1 hR hS
          · have hf := ite_t c27 hf
            refine lv_aload_n hx hb dX14_readBurn_116 rfl (lv_at hl 2 rfl) ?_
            refine lv_iconst (v := 3) hx hb dX14_readBurn_117 li_3 ?_
            obtain ⟨rr32, hrr32, hf⟩ := bind_s hf
            refine g0_cV (rm := (0, 0)) (As := [.int (3 : Int32)]) (rest := []) ⟨hx, hb, hml, hown, hts⟩ hG hR hS (m14_bad l G K (ov I [(1105, o, rr5.2.1), (1106, o, rr5.2.2.1), (1107, o, rr5.2.2.2.1), (1108, o, rr5.2.2.2.2.1), (1109, o, rr5.2.2.2.2.2.1), (1110, o, rr5.2.2.2.2.2.2.1), (1111, o, rr5.2.2.2.2.2.2.2.1), (1113, o, rr5.2.2.2.2.2.2.2.2.1)]) (ov J [(1112, o, rr5.2.2.2.2.2.2.2.2.2)]) X (ova A [((o + 1), a_tape), ((o + 3), a_read)]) B Q o shM (3 : Int32) rr5.2.2.1 rr5.2.2.2.1 rr5.2.2.2.2.2.2.1 rr5.2.2.2.2.2.2.2.1 (ov_get 1 rfl rfl) (ov_get 2 rfl rfl) (ov_get 5 rfl rfl) (ov_get 6 rfl rfl) rr32 hrr32) (cwV 1 hts gi_X14_216 rfl rfl rfl hd_X14_bad ⟨Nat.le_of_ble_eq_true rfl, Nat.le_of_ble_eq_true rfl⟩) shM.1 rfl rfl hl.1 (Nat.le_of_ble_eq_true rfl) dX14_readBurn_118 ⟨Nat.le_refl _, Nat.le_refl _⟩ rfl (fun H locs hR hS => ?_)
            have hR : RS G K (ov I [(1105, o, rr5.2.1), (1106, o, rr5.2.2.1), (1107, o, rr5.2.2.2.1), (1108, o, rr5.2.2.2.2.1), (1109, o, rr5.2.2.2.2.2.1), (1110, o, rr32.2.1), (1111, o, rr32.2.2), (1113, o, rr5.2.2.2.2.2.2.2.2.1)]) (ov J [(1112, o, rr5.2.2.2.2.2.2.2.2.2)]) X (ova A [((o + 1), a_tape), ((o + 3), a_read)]) B Q H := hR.to (ov_merge (l := [(1105, o, rr5.2.1), (1106, o, rr5.2.2.1), (1107, o, rr5.2.2.2.1), (1108, o, rr5.2.2.2.2.1), (1109, o, rr5.2.2.2.2.2.1), (1110, o, rr5.2.2.2.2.2.2.1), (1111, o, rr5.2.2.2.2.2.2.2.1), (1113, o, rr5.2.2.2.2.2.2.2.2.1)]) rfl [5, 6] [(1110, o, rr32.2.1), (1111, o, rr32.2.2)] rfl rfl) rfl rfl rfl rfl rfl
            obtain ⟨hz9, hf⟩ := gd_some hf
            obtain rfl := some_i hf
            exact hend _ _ _ _ dX14_readBurn_121 (congrArg Value.int hz9) hR hS
        · have hf := ite_t c19 hf
          exact hj81 rr5.2.1 rr5.2.2.1 rr5.2.2.2.1 rr5.2.2.2.2.1 rr5.2.2.2.2.2.1 rr5.2.2.2.2.2.2.1 rr5.2.2.2.2.2.2.2.1 rr5.2.2.2.2.2.2.2.2.2 a_read hf _ _ _ hR hS (lv_sub hl [1] rfl)
    · have hf := ite_f c7 hf
      refine lv_aload_n hx hb dX14_readBurn_36 rfl (lv_at hl 1 rfl) ?_
      refine lv_iconst (v := 1) hx hb dX14_readBurn_37 li_1 ?_
      obtain ⟨rr33, hrr33, hf⟩ := bind_s hf
      refine g0_cV (rm := (0, 0)) (As := [.int (1 : Int32)]) (rest := []) ⟨hx, hb, hml, hown, hts⟩ hG hR hS (m14_bad l G K (ov I [(1105, o, rr5.2.1), (1106, o, rr5.2.2.1), (1107, o, rr5.2.2.2.1), (1108, o, rr5.2.2.2.2.1), (1109, o, rr5.2.2.2.2.2.1), (1110, o, rr5.2.2.2.2.2.2.1), (1111, o, rr5.2.2.2.2.2.2.2.1), (1113, o, rr5.2.2.2.2.2.2.2.2.1)]) (ov J [(1112, o, rr5.2.2.2.2.2.2.2.2.2)]) X (ova A [((o + 1), a_tape), ((o + 3), a_read)]) B Q o shM (1 : Int32) rr5.2.2.1 rr5.2.2.2.1 rr5.2.2.2.2.2.2.1 rr5.2.2.2.2.2.2.2.1 (ov_get 1 rfl rfl) (ov_get 2 rfl rfl) (ov_get 5 rfl rfl) (ov_get 6 rfl rfl) rr33 hrr33) (cwV 1 hts gi_X14_216 rfl rfl rfl hd_X14_bad ⟨Nat.le_of_ble_eq_true rfl, Nat.le_of_ble_eq_true rfl⟩) shM.1 rfl rfl hl.1 (Nat.le_of_ble_eq_true rfl) dX14_readBurn_38 ⟨Nat.le_refl _, Nat.le_refl _⟩ rfl (fun H locs hR hS => ?_)
      have hR : RS G K (ov I [(1105, o, rr5.2.1), (1106, o, rr5.2.2.1), (1107, o, rr5.2.2.2.1), (1108, o, rr5.2.2.2.2.1), (1109, o, rr5.2.2.2.2.2.1), (1110, o, rr33.2.1), (1111, o, rr33.2.2), (1113, o, rr5.2.2.2.2.2.2.2.2.1)]) (ov J [(1112, o, rr5.2.2.2.2.2.2.2.2.2)]) X (ova A [((o + 1), a_tape), ((o + 3), a_read)]) B Q H := hR.to (ov_merge (l := [(1105, o, rr5.2.1), (1106, o, rr5.2.2.1), (1107, o, rr5.2.2.2.1), (1108, o, rr5.2.2.2.2.1), (1109, o, rr5.2.2.2.2.2.1), (1110, o, rr5.2.2.2.2.2.2.1), (1111, o, rr5.2.2.2.2.2.2.2.1), (1113, o, rr5.2.2.2.2.2.2.2.2.1)]) rfl [5, 6] [(1110, o, rr33.2.1), (1111, o, rr33.2.2)] rfl rfl) rfl rfl rfl rfl rfl
      obtain ⟨hz9, hf⟩ := gd_some hf
      obtain rfl := some_i hf
      exact hend _ _ _ _ dX14_readBurn_41 (congrArg Value.int hz9) hR hS
  · have hf := ite_t c6 hf
    refine lv_iconst (v := 0) hx hb dX14_readBurn_21 li_0 ?_
    obtain rfl := some_i hf
    exact hend _ _ _ _ dX14_readBurn_22 nz_0 hR hS
