/-! the walks of PailRow (printed by tools) 0 -/
set_option maxRecDepth 100000
noncomputable def f1_isIn_j14  : Option (Int32) :=
  some (0 : Int32)

noncomputable def f1_isIn (p1 : Int32) (p2 : Int32) (p3 : Int32) : Option (Int32) :=
  if p1 < p2 then
    f1_isIn_j14
  else
    if p3 < p1 then
      f1_isIn_j14
    else
      some (1 : Int32)
set_option maxHeartbeats 4000000 in
theorem m1_isIn (l : Launch) (G : gG) (K : gK) (I : gI) (J : gJ) (X : gX) (A : gI) (B : gJ) (Q : gX)  (p1 : Int32) (p2 : Int32) (p3 : Int32)   (out : Int32) (hf : f1_isIn p1 p2 p3 = some out) : GMet l yX1_isIn cX1_isIn 3 (some .boolean) (0) (0) G [.int p1, .int p2, .int p3] K I J X A B Q (some (.int out)) K I J X A B Q 0 0 := by
  refine GMet.of (y := yX1_isIn) rfl (Nat.le_of_ble_eq_true rfl) rfl ?_
  intro p e s m below meth c ls hx hb hr hml hlocks hts hown hname hG hR hl
  have hown : s.vm.findClass RX1 = some m.cls := hown
  have hR : RS G K I J X A B Q s.heap := hR.to rfl rfl rfl rfl rfl rfl
  have hS : va_S (gA G) s.heap s.heap [] := va_S.rf
  have hend : ∀ (pc : Nat) (H : Heap) (locs : List Loc) (ls : Array Slot), decode cX1_isIn pc = .ok (.ireturn, 1) → narrow .boolean (.int out) = .int out → RS G K I J X A B Q H → va_S (gA G) s.heap H locs → W p l e ({ frames := 0, cells := 0, slots := 0, locals := 0 } : Room) s m ([.int p1, .int p2, .int p3] : List Value).toArray below meth c H locs 0 0 (MQ below (gQ G (some (.int out)) K I J X A B Q) ([.int p1, .int p2, .int p3] : List Value).toArray s 0 0 (gA G)) (F0 m pc ls [.int out]) := fun pc H locs ls hd hz hR hS => g_zret hx hb hr hlocks hz hG hR hS rfl hd
  generalize MQ below (gQ G (some (.int out)) K I J X A B Q) ([.int p1, .int p2, .int p3] : List Value).toArray s 0 0 (gA G) = Z at hend ⊢
  generalize ([.int p1, .int p2, .int p3] : List Value).toArray = args at hts hend ⊢
  unfold f1_isIn at hf
  refine lv_iload_n hx hb dX1_isIn_0 rfl (lv_at hl 0 rfl) ?_
  refine lv_iload_n hx hb dX1_isIn_1 rfl (lv_at hl 1 rfl) ?_
  have hj14 : ∀ (_ : Unit), f1_isIn_j14 = some out → ∀ (H : Heap) (locs : List Loc) (ls : Array Slot), RS G K I J X A B Q H → va_S (gA G) s.heap H locs → lv_has ls 3 [] → W p l e ({ frames := 0, cells := 0, slots := 0, locals := 0 } : Room) s m args below meth c H locs 0 0 Z (F0 m 14 ls []) := by
    intro _ hf H locs ls hR hS hl
    unfold f1_isIn_j14 at hf
    refine lv_iconst (v := 0) hx hb dX1_isIn_14 li_0 ?_
    obtain rfl := some_i hf
    exact hend _ _ _ _ dX1_isIn_15 nz_0 hR hS
  refine lv_icmp_lt (tgt := 14) hx hb dX1_isIn_2 (by decide) (fun c1 => ?_) (fun c1 => ?_)
  · have hf := ite_t c1 hf
    exact hj14 () hf _ _ _ hR hS (lv_sub hl [] rfl)
  · have hf := ite_f c1 hf
    refine lv_iload_n hx hb dX1_isIn_5 rfl (lv_at hl 0 rfl) ?_
    refine lv_iload_n hx hb dX1_isIn_6 rfl (lv_at hl 2 rfl) ?_
    refine lv_icmp_gt (tgt := 14) hx hb dX1_isIn_7 (by decide) (fun c2 => ?_) (fun c2 => ?_)
    · have hf := ite_t c2 hf
      exact hj14 () hf _ _ _ hR hS (lv_sub hl [] rfl)
    · have hf := ite_f c2 hf
      refine lv_iconst (v := 1) hx hb dX1_isIn_10 li_1 ?_
      refine lv_goto (tgt := 15) hx hb dX1_isIn_11 (by decide) ?_
      obtain rfl := some_i hf
      exact hend _ _ _ _ dX1_isIn_15 nz_1 hR hS
noncomputable def f1_up (p1 : Int32) (p2 : Int32) : Option (Int32) :=
  lt (p1 + p2) fun v1 =>
  lt (v1 - (1 : Int32)) fun v2 =>
  gd (¬ p2 = 0) <|
  lt (v2 / p2) fun v3 =>
  some v3
set_option maxHeartbeats 4000000 in
theorem m1_up (l : Launch) (G : gG) (K : gK) (I : gI) (J : gJ) (X : gX) (A : gI) (B : gJ) (Q : gX)  (p1 : Int32) (p2 : Int32)   (out : Int32) (hf : f1_up p1 p2 = some out) : GMet l yX1_up cX1_up 2 (some .int) (0) (0) G [.int p1, .int p2] K I J X A B Q (some (.int out)) K I J X A B Q 0 0 := by
  refine GMet.of (y := yX1_up) rfl (Nat.le_of_ble_eq_true rfl) rfl ?_
  intro p e s m below meth c ls hx hb hr hml hlocks hts hown hname hG hR hl
  have hown : s.vm.findClass RX1 = some m.cls := hown
  have hR : RS G K I J X A B Q s.heap := hR.to rfl rfl rfl rfl rfl rfl
  have hS : va_S (gA G) s.heap s.heap [] := va_S.rf
  have hend : ∀ (pc : Nat) (H : Heap) (locs : List Loc) (ls : Array Slot), decode cX1_up pc = .ok (.ireturn, 1) → RS G K I J X A B Q H → va_S (gA G) s.heap H locs → W p l e ({ frames := 0, cells := 0, slots := 0, locals := 0 } : Room) s m ([.int p1, .int p2] : List Value).toArray below meth c H locs 0 0 (MQ below (gQ G (some (.int out)) K I J X A B Q) ([.int p1, .int p2] : List Value).toArray s 0 0 (gA G)) (F0 m pc ls [.int out]) := fun pc H locs ls hd hR hS => g_iret hx hb hr hlocks hG hR hS rfl hd
  generalize MQ below (gQ G (some (.int out)) K I J X A B Q) ([.int p1, .int p2] : List Value).toArray s 0 0 (gA G) = Z at hend ⊢
  generalize ([.int p1, .int p2] : List Value).toArray = args at hts hend ⊢
  unfold f1_up at hf
  refine lv_iload_n hx hb dX1_up_0 rfl (lv_at hl 0 rfl) ?_
  refine lv_iload_n hx hb dX1_up_1 rfl (lv_at hl 1 rfl) ?_
  obtain ⟨v1, ev1, hf⟩ := lt_some hf
  refine n_iadd hx hb ev1 dX1_up_2 ?_
  refine lv_iconst (v := 1) hx hb dX1_up_3 li_1 ?_
  obtain ⟨v2, ev2, hf⟩ := lt_some hf
  refine n_isub hx hb ev2 dX1_up_4 ?_
  refine lv_iload_n hx hb dX1_up_5 rfl (lv_at hl 1 rfl) ?_
  obtain ⟨c4, hf⟩ := gd_some hf
  obtain ⟨v3, ev3, hf⟩ := lt_some hf
  refine n_idiv hx hb c4 ev3 dX1_up_6 ?_
  obtain rfl := some_i hf
  exact hend _ _ _ _ dX1_up_7 hR hS
noncomputable def f4_isCell_j32  : Option (Int32) :=
  some (0 : Int32)

noncomputable def f4_isCell (p1 : Int32) (p2 : Int32) (i_columns : Int32) (i_rows : Int32) : Option (Int32) :=
  lt (i_columns - (1 : Int32)) fun v1 =>
  (f1_isIn p1 (0 : Int32) v1).bind fun rr2 =>
  if rr2 = 0 then
    f4_isCell_j32
  else
    lt (i_rows - (1 : Int32)) fun v4 =>
    (f1_isIn p2 (0 : Int32) v4).bind fun rr5 =>
    if rr5 = 0 then
      f4_isCell_j32
    else
      some (1 : Int32)
set_option maxHeartbeats 4000000 in
theorem m4_isCell (l : Launch) (G : gG) (K : gK) (I : gI) (J : gJ) (X : gX) (A : gI) (B : gJ) (Q : gX) (o : Nat) (sh_o : Sh K X o 3 rows3) (p1 : Int32) (p2 : Int32) (i_columns : Int32) (i_rows : Int32) (e_i_columns : I 304 o = i_columns) (e_i_rows : I 305 o = i_rows) (out : Int32) (hf : f4_isCell p1 p2 i_columns i_rows = some out) : GMet l yX4_isCell cX4_isCell 3 (some .boolean) (1) (22) G [.ref o, .int p1, .int p2] K I J X A B Q (some (.int out)) K I J X A B Q 0 0 := by
  refine GMet.of (y := yX4_isCell) rfl (Nat.le_of_ble_eq_true rfl) rfl ?_
  intro p e s m below meth c ls hx hb hr hml hlocks hts hown hname hG hR hl
  have hown : s.vm.findClass RX4 = some m.cls := hown
  have hR : RS G K I J X A B Q s.heap := hR.to rfl rfl rfl rfl rfl rfl
  have hS : va_S (gA G) s.heap s.heap [] := va_S.rf
  have hend : ∀ (pc : Nat) (H : Heap) (locs : List Loc) (ls : Array Slot), decode cX4_isCell pc = .ok (.ireturn, 1) → narrow .boolean (.int out) = .int out → RS G K I J X A B Q H → va_S (gA G) s.heap H locs → W p l e ({ frames := 1, cells := 0, slots := 0, locals := 22 } : Room) s m ([.ref o, .int p1, .int p2] : List Value).toArray below meth c H locs 0 0 (MQ below (gQ G (some (.int out)) K I J X A B Q) ([.ref o, .int p1, .int p2] : List Value).toArray s 0 0 (gA G)) (F0 m pc ls [.int out]) := fun pc H locs ls hd hz hR hS => g_zret hx hb hr hlocks hz hG hR hS rfl hd
  generalize MQ below (gQ G (some (.int out)) K I J X A B Q) ([.ref o, .int p1, .int p2] : List Value).toArray s 0 0 (gA G) = Z at hend ⊢
  generalize ([.ref o, .int p1, .int p2] : List Value).toArray = args at hts hend ⊢
  unfold f4_isCell at hf
  refine lv_iload_n hx hb dX4_isCell_0 rfl (lv_at hl 1 rfl) ?_
  refine lv_iconst (v := 0) hx hb dX4_isCell_1 li_0 ?_
  refine lv_aload_n hx hb dX4_isCell_2 rfl (lv_at hl 0 rfl) ?_
  refine n_geti (v := i_columns) hx hb hts hown hG hR gFi_X4_50_3 sh_o.1 e_i_columns dX4_isCell_3 ?_
  refine lv_iconst (v := 1) hx hb dX4_isCell_6 li_1 ?_
  obtain ⟨v1, ev1, hf⟩ := lt_some hf
  refine n_isub hx hb ev1 dX4_isCell_7 ?_
  obtain ⟨rr2, hrr2, hf⟩ := bind_s hf
  refine g0_cSN (rm := (0, 0)) (As := [.int p1, .int (0 : Int32), .int v1]) (rest := []) ⟨hx, hb, hml, hown, hts⟩ hG hR hS (m1_isIn l G K I J X A B Q p1 (0 : Int32) v1 rr2 hrr2) ⟨va_cnB 3 hts (lw_meth q862) rfl rfl rfl (hG.2 _ q1105 rfl) (hts _ q103) hd_X1_isIn.2 ⟨Nat.le_of_ble_eq_true rfl, Nat.le_of_ble_eq_true rfl⟩, hts _ q861, trivial⟩ rfl hl.1 (Nat.le_of_ble_eq_true rfl) dX4_isCell_8 ⟨Nat.le_refl _, Nat.le_refl _⟩ rfl (fun H locs hR hS => ?_)
  have hj32 : ∀ (_ : Unit), f4_isCell_j32 = some out → ∀ (H : Heap) (locs : List Loc) (ls : Array Slot), RS G K I J X A B Q H → va_S (gA G) s.heap H locs → lv_has ls 3 [(0, .ref o)] → W p l e ({ frames := 1, cells := 0, slots := 0, locals := 22 } : Room) s m args below meth c H locs 0 0 Z (F0 m 32 ls []) := by
    intro _ hf H locs ls hR hS hl
    unfold f4_isCell_j32 at hf
    refine lv_iconst (v := 0) hx hb dX4_isCell_32 li_0 ?_
    obtain rfl := some_i hf
    exact hend _ _ _ _ dX4_isCell_33 nz_0 hR hS
  refine lv_if_eq (tgt := 32) hx hb dX4_isCell_11 (by decide) (fun c3 => ?_) (fun c3 => ?_)
  · have hf := ite_t c3 hf
    exact hj32 () hf _ _ _ hR hS (lv_sub hl [0] rfl)
  · have hf := ite_f c3 hf
    refine lv_iload_n hx hb dX4_isCell_14 rfl (lv_at hl 2 rfl) ?_
    refine lv_iconst (v := 0) hx hb dX4_isCell_15 li_0 ?_
    refine lv_aload_n hx hb dX4_isCell_16 rfl (lv_at hl 0 rfl) ?_
    refine n_geti (v := i_rows) hx hb hts hown hG hR gFi_X4_57_3 sh_o.1 e_i_rows dX4_isCell_17 ?_
    refine lv_iconst (v := 1) hx hb dX4_isCell_20 li_1 ?_
    obtain ⟨v4, ev4, hf⟩ := lt_some hf
    refine n_isub hx hb ev4 dX4_isCell_21 ?_
    obtain ⟨rr5, hrr5, hf⟩ := bind_s hf
    refine g0_cSN (rm := (0, 0)) (As := [.int p2, .int (0 : Int32), .int v4]) (rest := []) ⟨hx, hb, hml, hown, hts⟩ hG hR hS (m1_isIn l G K I J X A B Q p2 (0 : Int32) v4 rr5 hrr5) ⟨va_cnB 3 hts (lw_meth q862) rfl rfl rfl (hG.2 _ q1105 rfl) (hts _ q103) hd_X1_isIn.2 ⟨Nat.le_of_ble_eq_true rfl, Nat.le_of_ble_eq_true rfl⟩, hts _ q861, trivial⟩ rfl hl.1 (Nat.le_of_ble_eq_true rfl) dX4_isCell_22 ⟨Nat.le_refl _, Nat.le_refl _⟩ rfl (fun H locs hR hS => ?_)
    refine lv_if_eq (tgt := 32) hx hb dX4_isCell_25 (by decide) (fun c6 => ?_) (fun c6 => ?_)
    · have hf := ite_t c6 hf
      exact hj32 () hf _ _ _ hR hS (lv_sub hl [0] rfl)
    · have hf := ite_f c6 hf
      refine lv_iconst (v := 1) hx hb dX4_isCell_28 li_1 ?_
      refine lv_goto (tgt := 33) hx hb dX4_isCell_29 (by decide) ?_
      obtain rfl := some_i hf
      exact hend _ _ _ _ dX4_isCell_33 nz_1 hR hS
noncomputable def f4_isAim_j36  : Option (Int32) :=
  some (1 : Int32)

noncomputable def f4_isAim_j40  : Option (Int32) :=
  some (0 : Int32)

noncomputable def f4_isAim (p1 : Int32) (i_columns : Int32) (i_rows : Int32) : Option (Int32) :=
  (f1_isIn p1 (0 : Int32) (3 : Int32)).bind fun rr1 =>
  if rr1 = 0 then
    if p1 < (100 : Int32) then
      f4_isAim_j40
    else
      lt (p1 - (100 : Int32)) fun v4 =>
      gd (¬ (10 : Int32) = 0) <|
      lt (v4 - v4 / (10 : Int32) * (10 : Int32)) fun v5 =>
      lt (p1 - (100 : Int32)) fun v7 =>
      gd (¬ (10 : Int32) = 0) <|
      lt (v7 / (10 : Int32)) fun v8 =>
      (f4_isCell v5 v8 i_columns i_rows).bind fun rr10 =>
      if rr10 = 0 then
        f4_isAim_j40
      else
        f4_isAim_j36
  else
    f4_isAim_j36
set_option maxHeartbeats 4000000 in
theorem m4_isAim (l : Launch) (G : gG) (K : gK) (I : gI) (J : gJ) (X : gX) (A : gI) (B : gJ) (Q : gX) (o : Nat) (sh_o : Sh K X o 3 rows3) (p1 : Int32) (i_columns : Int32) (i_rows : Int32) (e_i_columns : I 304 o = i_columns) (e_i_rows : I 305 o = i_rows) (out : Int32) (hf : f4_isAim p1 i_columns i_rows = some out) : GMet l yX4_isAim cX4_isAim 2 (some .boolean) (2) (44) G [.ref o, .int p1] K I J X A B Q (some (.int out)) K I J X A B Q 0 0 := by
  refine GMet.of (y := yX4_isAim) rfl (Nat.le_of_ble_eq_true rfl) rfl ?_
  intro p e s m below meth c ls hx hb hr hml hlocks hts hown hname hG hR hl
  have hown : s.vm.findClass RX4 = some m.cls := hown
  have hR : RS G K I J X A B Q s.heap := hR.to rfl rfl rfl rfl rfl rfl
  have hS : va_S (gA G) s.heap s.heap [] := va_S.rf
  have hend : ∀ (pc : Nat) (H : Heap) (locs : List Loc) (ls : Array Slot), decode cX4_isAim pc = .ok (.ireturn, 1) → narrow .boolean (.int out) = .int out → RS G K I J X A B Q H → va_S (gA G) s.heap H locs → W p l e ({ frames := 2, cells := 0, slots := 0, locals := 44 } : Room) s m ([.ref o, .int p1] : List Value).toArray below meth c H locs 0 0 (MQ below (gQ G (some (.int out)) K I J X A B Q) ([.ref o, .int p1] : List Value).toArray s 0 0 (gA G)) (F0 m pc ls [.int out]) := fun pc H locs ls hd hz hR hS => g_zret hx hb hr hlocks hz hG hR hS rfl hd
  generalize MQ below (gQ G (some (.int out)) K I J X A B Q) ([.ref o, .int p1] : List Value).toArray s 0 0 (gA G) = Z at hend ⊢
  generalize ([.ref o, .int p1] : List Value).toArray = args at hts hend ⊢
  unfold f4_isAim at hf
  refine lv_iload_n hx hb dX4_isAim_0 rfl (lv_at hl 1 rfl) ?_
  refine lv_iconst (v := 0) hx hb dX4_isAim_1 li_0 ?_
  refine lv_iconst (v := 3) hx hb dX4_isAim_2 li_3 ?_
  obtain ⟨rr1, hrr1, hf⟩ := bind_s hf
  refine g0_cSN (rm := (0, 0)) (As := [.int p1, .int (0 : Int32), .int (3 : Int32)]) (rest := []) ⟨hx, hb, hml, hown, hts⟩ hG hR hS (m1_isIn l G K I J X A B Q p1 (0 : Int32) (3 : Int32) rr1 hrr1) ⟨va_cnB 3 hts (lw_meth q862) rfl rfl rfl (hG.2 _ q1105 rfl) (hts _ q103) hd_X1_isIn.2 ⟨Nat.le_of_ble_eq_true rfl, Nat.le_of_ble_eq_true rfl⟩, hts _ q861, trivial⟩ rfl hl.1 (Nat.le_of_ble_eq_true rfl) dX4_isAim_3 ⟨Nat.le_refl _, Nat.le_refl _⟩ rfl (fun H locs hR hS => ?_)
  have hj36 : ∀ (_ : Unit), f4_isAim_j36 = some out → ∀ (H : Heap) (locs : List Loc) (ls : Array Slot), RS G K I J X A B Q H → va_S (gA G) s.heap H locs → lv_has ls 2 [(0, .ref o)] → W p l e ({ frames := 2, cells := 0, slots := 0, locals := 44 } : Room) s m args below meth c H locs 0 0 Z (F0 m 36 ls []) := by
    intro _ hf H locs ls hR hS hl
    unfold f4_isAim_j36 at hf
    refine lv_iconst (v := 1) hx hb dX4_isAim_36 li_1 ?_
    refine lv_goto (tgt := 41) hx hb dX4_isAim_37 (by decide) ?_
    obtain rfl := some_i hf
    exact hend _ _ _ _ dX4_isAim_41 nz_1 hR hS
  refine lv_if_ne (tgt := 36) hx hb dX4_isAim_6 (by decide) (fun c2 => ?_) (fun c2 => ?_)
  · have hf := ite_f c2 hf
    exact hj36 () hf _ _ _ hR hS (lv_sub hl [0] rfl)
  · have hf := ite_t c2 hf
    refine lv_iload_n hx hb dX4_isAim_9 rfl (lv_at hl 1 rfl) ?_
    refine lv_bipush (v := 100) hx hb dX4_isAim_10 lb_100 ?_
    have hj40 : ∀ (_ : Unit), f4_isAim_j40 = some out → ∀ (H : Heap) (locs : List Loc) (ls : Array Slot), RS G K I J X A B Q H → va_S (gA G) s.heap H locs → lv_has ls 2 [(0, .ref o)] → W p l e ({ frames := 2, cells := 0, slots := 0, locals := 44 } : Room) s m args below meth c H locs 0 0 Z (F0 m 40 ls []) := by
      intro _ hf H locs ls hR hS hl
      unfold f4_isAim_j40 at hf
      refine lv_iconst (v := 0) hx hb dX4_isAim_40 li_0 ?_
      obtain rfl := some_i hf
      exact hend _ _ _ _ dX4_isAim_41 nz_0 hR hS
    refine lv_icmp_lt (tgt := 40) hx hb dX4_isAim_12 (by decide) (fun c3 => ?_) (fun c3 => ?_)
    · have hf := ite_t c3 hf
      exact hj40 () hf _ _ _ hR hS (lv_sub hl [0] rfl)
    · have hf := ite_f c3 hf
      refine lv_aload_n hx hb dX4_isAim_15 rfl (lv_at hl 0 rfl) ?_
      refine lv_iload_n hx hb dX4_isAim_16 rfl (lv_at hl 1 rfl) ?_
      refine lv_bipush (v := 100) hx hb dX4_isAim_17 lb_100 ?_
      obtain ⟨v4, ev4, hf⟩ := lt_some hf
      refine n_isub hx hb ev4 dX4_isAim_19 ?_
      refine lv_bipush (v := 10) hx hb dX4_isAim_20 lb_10 ?_
      obtain ⟨c6, hf⟩ := gd_some hf
      obtain ⟨v5, ev5, hf⟩ := lt_some hf
      refine n_irem hx hb c6 ev5 dX4_isAim_22 ?_
      refine lv_iload_n hx hb dX4_isAim_23 rfl (lv_at hl 1 rfl) ?_
      refine lv_bipush (v := 100) hx hb dX4_isAim_24 lb_100 ?_
      obtain ⟨v7, ev7, hf⟩ := lt_some hf
      refine n_isub hx hb ev7 dX4_isAim_26 ?_
      refine lv_bipush (v := 10) hx hb dX4_isAim_27 lb_10 ?_
      obtain ⟨c9, hf⟩ := gd_some hf
      obtain ⟨v8, ev8, hf⟩ := lt_some hf
      refine n_idiv hx hb c9 ev8 dX4_isAim_29 ?_
      obtain ⟨rr10, hrr10, hf⟩ := bind_s hf
      refine g0_cV (rm := (1, 22)) (As := [.int v5, .int v8]) (rest := []) ⟨hx, hb, hml, hown, hts⟩ hG hR hS (m4_isCell l G K I J X A B Q o sh_o v5 v8 i_columns i_rows e_i_columns e_i_rows rr10 hrr10) (cwV 2 hts gi_X4_60 rfl rfl rfl hd_X4_isCell ⟨Nat.le_of_ble_eq_true rfl, Nat.le_of_ble_eq_true rfl⟩) sh_o.1 rfl rfl hl.1 (Nat.le_of_ble_eq_true rfl) dX4_isAim_30 ⟨Nat.le_refl _, Nat.le_refl _⟩ rfl (fun H locs hR hS => ?_)
      refine lv_if_eq (tgt := 40) hx hb dX4_isAim_33 (by decide) (fun c11 => ?_) (fun c11 => ?_)
      · have hf := ite_t c11 hf
        exact hj40 () hf _ _ _ hR hS (lv_sub hl [0] rfl)
      · have hf := ite_f c11 hf
        exact hj36 () hf _ _ _ hR hS (lv_sub hl [0] rfl)
noncomputable def f12_begin_e1_0 (x1_0 : Int32 × (Nat → Int32) × (Nat → Int32) × (Nat → Int32)) : Option (Int32 × (Nat → Int32) × (Nat → Int32) × (Nat → Int32)) :=
  some x1_0

noncomputable def f12_begin_s1 (a_y_fuel : Nat → Int32) (a_y_burns : Nat → Int32) (w1_2 : Int32) (w1_a_fuel : Nat → Int32) (w1_a_wet : Nat → Int32) (w1_a_burns : Nat → Int32) : Option ((Int32 × (Nat → Int32) × (Nat → Int32) × (Nat → Int32)) ⊕ (Int32 × (Nat → Int32) × (Nat → Int32) × (Nat → Int32))) :=
  if (64 : Int32) ≤ w1_2 then
    some (.inr ((0 : Int32), w1_a_fuel, w1_a_wet, w1_a_burns))
  else
    gd (inb w1_2 64) <|
    lt (a_y_fuel w1_2.toNatClampNeg) fun v4 =>
    gd (inb w1_2 64) <|
    lt (upd w1_a_fuel w1_2.toNatClampNeg v4) fun u6 =>
    gd (inb w1_2 64) <|
    lt (upd w1_a_wet w1_2.toNatClampNeg (0 : Int32)) fun u8 =>
    gd (inb w1_2 64) <|
    lt (a_y_burns w1_2.toNatClampNeg) fun v10 =>
    gd (inb w1_2 64) <|
    lt (upd w1_a_burns w1_2.toNatClampNeg (vp_nar .boolean v10)) fun u12 =>
    lt (w1_2 + (1 : Int32)) fun v13 =>
    some (.inl (v13, u6, u8, u12))

noncomputable def f12_begin (i_lost : Int32) (a_fuel : Nat → Int32) (a_wet : Nat → Int32) (a_burns : Nat → Int32) (a_y_fuel : Nat → Int32) (a_y_burns : Nat → Int32) : Option (Int32 × (Nat → Int32) × (Nat → Int32) × (Nat → Int32)) :=
  (whl (fun (s1 : Int32 × (Nat → Int32) × (Nat → Int32) × (Nat → Int32)) => f12_begin_s1 a_y_fuel a_y_burns s1.1 s1.2.1 s1.2.2.1 s1.2.2.2) FU ((0 : Int32), a_fuel, a_wet, a_burns)).bind fun rl1 =>
  f12_begin_e1_0 rl1
set_option maxHeartbeats 4000000 in
theorem m12_begin (l : Launch) (G : gG) (K : gK) (I : gI) (J : gJ) (X : gX) (A : gI) (B : gJ) (Q : gX) (o : Nat) (y : Nat) (sh_o : Sh K X o 9 rows9) (sh_y : Sh K X y 3 rows3) (hN_A : nda [(o + 1), (o + 2), (o + 4), (y + 2), (y + 3)])  (i_lost : Int32) (x0_yard : Option Nat) (a_fuel : Nat → Int32) (a_wet : Nat → Int32) (a_burns : Nat → Int32) (a_y_fuel : Nat → Int32) (a_y_burns : Nat → Int32) (e_i_lost : I 905 o = i_lost) (e_x0_yard : X 904 o = x0_yard) (e_a_fuel : A (o + 1) = a_fuel) (e_a_wet : A (o + 2) = a_wet) (e_a_burns : A (o + 4) = a_burns) (e_a_y_fuel : A (y + 2) = a_y_fuel) (e_a_y_burns : A (y + 3) = a_y_burns) (out : Int32 × (Nat → Int32) × (Nat → Int32) × (Nat → Int32)) (hf : f12_begin i_lost a_fuel a_wet a_burns a_y_fuel a_y_burns = some out) : GMet l yX12_begin cX12_begin 3 none (0) (0) G [.ref o, .ref y] K I J X A B Q none K (ov I [(905, o, out.1)]) J (ov X [(904, o, (some y))]) (ova A [((o + 1), out.2.1), ((o + 2), out.2.2.1), ((o + 4), out.2.2.2), ((y + 2), a_y_fuel), ((y + 3), a_y_burns)]) B Q 0 0 := by
  refine GMet.of (y := yX12_begin) rfl (Nat.le_of_ble_eq_true rfl) rfl ?_
  intro p e s m below meth c ls hx hb hr hml hlocks hts hown hname hG hR hl
  have hown : s.vm.findClass RX12 = some m.cls := hown
  have k_a_fuel : K (o + 1) = some (.inr (0, 64)) := (sh_o.2 0 _ rfl).1
  have k_a_wet : K (o + 2) = some (.inr (0, 64)) := (sh_o.2 1 _ rfl).1
  have k_a_burns : K (o + 4) = some (.inr (1, 64)) := (sh_o.2 3 _ rfl).1
  have k_a_y_fuel : K (y + 2) = some (.inr (0, 64)) := (sh_y.2 1 _ rfl).1
  have k_a_y_burns : K (y + 3) = some (.inr (1, 64)) := (sh_y.2 2 _ rfl).1
  have hR : RS G K (ov I [(905, o, i_lost)]) J (ov X [(904, o, x0_yard)]) (ova A [((o + 1), a_fuel), ((o + 2), a_wet), ((o + 4), a_burns), ((y + 2), a_y_fuel), ((y + 3), a_y_burns)]) B Q s.heap := hR.to (Eq.symm (ov_sc e_i_lost rfl)) rfl (Eq.symm (ov_sc e_x0_yard rfl)) (Eq.symm (ova_sc e_a_fuel (ova_sc e_a_wet (ova_sc e_a_burns (ova_sc e_a_y_fuel (ova_sc e_a_y_burns rfl)))))) rfl rfl
  have hS : va_S (gA G) s.heap s.heap [] := va_S.rf
  have hend : ∀ (pc : Nat) (H : Heap) (locs : List Loc) (ls : Array Slot), decode cX12_begin pc = .ok (.return_, 1) → RS G K (ov I [(905, o, out.1)]) J (ov X [(904, o, (some y))]) (ova A [((o + 1), out.2.1), ((o + 2), out.2.2.1), ((o + 4), out.2.2.2), ((y + 2), a_y_fuel), ((y + 3), a_y_burns)]) B Q H → va_S (gA G) s.heap H locs → W p l e ({ frames := 0, cells := 0, slots := 0, locals := 0 } : Room) s m ([.ref o, .ref y] : List Value).toArray below meth c H locs 0 0 (MQ below (gQ G none K (ov I [(905, o, out.1)]) J (ov X [(904, o, (some y))]) (ova A [((o + 1), out.2.1), ((o + 2), out.2.2.1), ((o + 4), out.2.2.2), ((y + 2), a_y_fuel), ((y + 3), a_y_burns)]) B Q) ([.ref o, .ref y] : List Value).toArray s 0 0 (gA G)) (F0 m pc ls []) := fun pc H locs ls hd hR hS => g_vret hx hb hr hlocks hG hR hS rfl hd
  generalize MQ below (gQ G none K (ov I [(905, o, out.1)]) J (ov X [(904, o, (some y))]) (ova A [((o + 1), out.2.1), ((o + 2), out.2.2.1), ((o + 4), out.2.2.2), ((y + 2), a_y_fuel), ((y + 3), a_y_burns)]) B Q) ([.ref o, .ref y] : List Value).toArray s 0 0 (gA G) = Z at hend ⊢
  generalize ([.ref o, .ref y] : List Value).toArray = args at hts hend ⊢
  unfold f12_begin at hf
  refine lv_aload_n hx hb dX12_begin_0 rfl (lv_at hl 0 rfl) ?_
  refine lv_aload_n hx hb dX12_begin_1 rfl (lv_at hl 1 rfl) ?_
  refine n_putx (v := (some y)) (li' := [(904, o, (some y))]) hx hb hts hown hG hR hS gPx_X12_25_9 sh_o.1 0 rfl rfl rfl dX12_begin_2 (fun H locs hR hS => ?_)
  refine lv_aload_n hx hb dX12_begin_5 rfl (lv_at hl 0 rfl) ?_
  refine lv_iconst (v := 0) hx hb dX12_begin_6 li_0 ?_
  refine n_puti (li' := [(905, o, (0 : Int32))]) hx hb hts hown hG hR hS gPi_X12_29_9 sh_o.1 0 rfl rfl rfl dX12_begin_7 (fun H locs hR hS => ?_)
  refine lv_iconst (v := 0) hx hb dX12_begin_10 li_0 ?_
  refine lv_istore_n (lv' := [(2, .int (0 : Int32)), (0, .ref o), (1, .ref y)]) hx hb dX12_begin_11 rfl hl (by decide) rfl (fun ls hl => ?_)
  obtain ⟨rl1, hw1, hfo1⟩ := bind_s hf
  have hx1_0 : ∀ (x1_0 : Int32 × (Nat → Int32) × (Nat → Int32) × (Nat → Int32)), f12_begin_e1_0 x1_0 = some out → ∀ (pc : Nat) (H : Heap) (locs : List Loc) (ls : Array Slot), decode cX12_begin pc = .ok (.return_, 1) → RS G K (ov I [(905, o, x1_0.1)]) J (ov X [(904, o, (some y))]) (ova A [((o + 1), x1_0.2.1), ((o + 2), x1_0.2.2.1), ((o + 4), x1_0.2.2.2), ((y + 2), a_y_fuel), ((y + 3), a_y_burns)]) B Q H → va_S (gA G) s.heap H locs → W p l e ({ frames := 0, cells := 0, slots := 0, locals := 0 } : Room) s m args below meth c H locs 0 0 Z (F0 m pc ls []) := by
    intro x1_0 hf pc H locs ls hd hR hS
    unfold f12_begin_e1_0 at hf
    obtain rfl := some_i hf
    exact hend _ _ _ _ hd hR hS
  refine whl_walk (P := fun (s1 : Int32 × (Nat → Int32) × (Nat → Int32) × (Nat → Int32)) => ∀ (H : Heap) (locs : List Loc) (ls : Array Slot), RS G K (ov I [(905, o, (0 : Int32))]) J (ov X [(904, o, (some y))]) (ova A [((o + 1), s1.2.1), ((o + 2), s1.2.2.1), ((o + 4), s1.2.2.2), ((y + 2), a_y_fuel), ((y + 3), a_y_burns)]) B Q H → va_S (gA G) s.heap H locs → lv_has ls 3 [(0, .ref o), (1, .ref y), (2, .int s1.1)] → W p l e ({ frames := 0, cells := 0, slots := 0, locals := 0 } : Room) s m args below meth c H locs 0 0 Z (F0 m 12 ls [])) (r := rl1) ?_ FU _ hw1 _ _ _ hR hS (lv_sub hl [1, 2, 0] rfl)
  clear hR hS hl hf
  intro s1 o1 hf hk1 H locs ls hR hS hl
  obtain ⟨w1_2, w1_a_fuel, w1_a_wet, w1_a_burns⟩ := s1
  have hf : f12_begin_s1 a_y_fuel a_y_burns w1_2 w1_a_fuel w1_a_wet w1_a_burns = some o1 := hf
  have hR : RS G K (ov I [(905, o, (0 : Int32))]) J (ov X [(904, o, (some y))]) (ova A [((o + 1), w1_a_fuel), ((o + 2), w1_a_wet), ((o + 4), w1_a_burns), ((y + 2), a_y_fuel), ((y + 3), a_y_burns)]) B Q H := hR
  have hl : lv_has ls 3 [(0, .ref o), (1, .ref y), (2, .int w1_2)] := hl
  unfold f12_begin_s1 at hf
  refine lv_iload_n hx hb dX12_begin_12 rfl (lv_at hl 2 rfl) ?_
  refine lv_bipush (v := 64) hx hb dX12_begin_13 lb_64 ?_
  refine lv_icmp_ge (tgt := 55) hx hb dX12_begin_15 (by decide) (fun c2 => ?_) (fun c2 => ?_)
  · have hf := ite_t c2 hf
    obtain rfl := some_i hf
    replace hk1 : _ = rl1 := hk1
    subst hk1
    exact hx1_0 ((0 : Int32), w1_a_fuel, w1_a_wet, w1_a_burns) hfo1 _ _ _ _ dX12_begin_55 hR hS
  · have hf := ite_f c2 hf
    refine lv_aload_n hx hb dX12_begin_18 rfl (lv_at hl 0 rfl) ?_
    refine g_getr (b := (o + 1)) hx hb hts hown hG hR gFx_X12_9_9 sh_o.1 ((congrFun (ov_no rfl) _).trans ((sh_o.2 0 _ rfl).2)) dX12_begin_19 ?_
    refine lv_iload_n hx hb dX12_begin_22 rfl (lv_at hl 2 rfl) ?_
    refine lv_aload_n hx hb dX12_begin_23 rfl (lv_at hl 1 rfl) ?_
    refine g_getr (b := (y + 2)) hx hb hts hown hG hR gFx_X12_33_3 sh_y.1 ((congrFun (ov_no rfl) _).trans ((sh_y.2 1 _ rfl).2)) dX12_begin_24 ?_
    refine lv_iload_n hx hb dX12_begin_27 rfl (lv_at hl 2 rfl) ?_
    obtain ⟨c3, hf⟩ := gd_some hf
    obtain ⟨v4, ev4, hf⟩ := lt_some hf
    refine n_iald (x := a_y_fuel) hx hb hG hR k_a_y_fuel c3 (ova_get 3 hN_A rfl) ev4 dX12_begin_28 ?_
    obtain ⟨c5, hf⟩ := gd_some hf
    obtain ⟨u6, eu6, hf⟩ := lt_some hf
    refine n_iast (la' := [((o + 1), u6), ((o + 2), w1_a_wet), ((o + 4), w1_a_burns), ((y + 2), a_y_fuel), ((y + 3), a_y_burns)]) hx hb hG hR hS k_a_fuel c5 hN_A 0 rfl eu6 rfl dX12_begin_29 (fun H locs hR hS => ?_)
    refine lv_aload_n hx hb dX12_begin_30 rfl (lv_at hl 0 rfl) ?_
    refine g_getr (b := (o + 2)) hx hb hts hown hG hR gFx_X12_15_9 sh_o.1 ((congrFun (ov_no rfl) _).trans ((sh_o.2 1 _ rfl).2)) dX12_begin_31 ?_
    refine lv_iload_n hx hb dX12_begin_34 rfl (lv_at hl 2 rfl) ?_
    refine lv_iconst (v := 0) hx hb dX12_begin_35 li_0 ?_
    obtain ⟨c7, hf⟩ := gd_some hf
    obtain ⟨u8, eu8, hf⟩ := lt_some hf
    refine n_iast (la' := [((o + 1), u6), ((o + 2), u8), ((o + 4), w1_a_burns), ((y + 2), a_y_fuel), ((y + 3), a_y_burns)]) hx hb hG hR hS k_a_wet c7 hN_A 1 rfl eu8 rfl dX12_begin_36 (fun H locs hR hS => ?_)
    refine lv_aload_n hx hb dX12_begin_37 rfl (lv_at hl 0 rfl) ?_
    refine g_getr (b := (o + 4)) hx hb hts hown hG hR gFx_X12_21_9 sh_o.1 ((congrFun (ov_no rfl) _).trans ((sh_o.2 3 _ rfl).2)) dX12_begin_38 ?_
    refine lv_iload_n hx hb dX12_begin_41 rfl (lv_at hl 2 rfl) ?_
    refine lv_aload_n hx hb dX12_begin_42 rfl (lv_at hl 1 rfl) ?_
    refine g_getr (b := (y + 3)) hx hb hts hown hG hR gFx_X12_36_3 sh_y.1 ((congrFun (ov_no rfl) _).trans ((sh_y.2 2 _ rfl).2)) dX12_begin_43 ?_
    refine lv_iload_n hx hb dX12_begin_46 rfl (lv_at hl 2 rfl) ?_
    obtain ⟨c9, hf⟩ := gd_some hf
    obtain ⟨v10, ev10, hf⟩ := lt_some hf
    refine n_zald (x := a_y_burns) hx hb hG hR k_a_y_burns c9 (ova_get 4 hN_A rfl) ev10 dX12_begin_47 ?_
    obtain ⟨c11, hf⟩ := gd_some hf
    obtain ⟨u12, eu12, hf⟩ := lt_some hf
    refine n_zast (la' := [((o + 1), u6), ((o + 2), u8), ((o + 4), u12), ((y + 2), a_y_fuel), ((y + 3), a_y_burns)]) hx hb hG hR hS k_a_burns c11 hN_A 2 rfl eu12 rfl dX12_begin_48 (fun H locs hR hS => ?_)
    obtain ⟨v13, ev13, hf⟩ := lt_some hf
    refine lv_iinc (k := 2) (v := v13) (lv' := [(2, .int v13), (0, .ref o), (1, .ref y)]) hx hb dX12_begin_49 hl rfl (by rw [ev13]; rfl) (by decide) rfl (fun ls hl => ?_)
    refine lv_goto (tgt := 12) hx hb dX12_begin_52 (by decide) ?_
    obtain rfl := some_i hf
    exact hk1 _ _ _ hR hS (lv_sub hl [1, 2, 0] rfl)
noncomputable def f12_be (i_b_lost : Int32) (i_lost : Int32) (a_b_fuel : Nat → Int32) (a_b_wet : Nat → Int32) (a_b_burns : Nat → Int32) (a_fuel : Nat → Int32) (a_wet : Nat → Int32) (a_burns : Nat → Int32) : Option (Int32 × (Nat → Int32) × (Nat → Int32) × (Nat → Int32)) :=
  gd (cp_ok (0 : Int32) (0 : Int32) (64 : Int32) 64 64) <|
  lt (va_cpy a_b_fuel a_fuel (0 : Int32).toNatClampNeg (0 : Int32).toNatClampNeg (64 : Int32).toNatClampNeg) fun u2 =>
  gd (cp_ok (0 : Int32) (0 : Int32) (64 : Int32) 64 64) <|
  lt (va_cpy a_b_wet a_wet (0 : Int32).toNatClampNeg (0 : Int32).toNatClampNeg (64 : Int32).toNatClampNeg) fun u4 =>
  gd (cp_ok (0 : Int32) (0 : Int32) (64 : Int32) 64 64) <|
  gd (∀ i, i < (64 : Int32).toNatClampNeg → zb (a_b_burns ((0 : Int32).toNatClampNeg + i))) <|
  lt (va_cpy a_b_burns a_burns (0 : Int32).toNatClampNeg (0 : Int32).toNatClampNeg (64 : Int32).toNatClampNeg) fun u6 =>
  some (i_b_lost, u2, u4, u6)
set_option maxHeartbeats 4000000 in
theorem m12_be (l : Launch) (G : gG) (K : gK) (I : gI) (J : gJ) (X : gX) (A : gI) (B : gJ) (Q : gX) (o : Nat) (b : Nat) (y : Nat) (sh_o : Sh K X o 9 rows9) (sh_b : Sh K X b 9 rows9) (sh_y : Sh K X y 3 rows3) (x_b_yard : X 904 b = some y) (ap_o_b : o + 4 < b ∨ b + 4 < o)  (i_b_lost : Int32) (i_lost : Int32) (x0_yard : Option Nat) (a_b_fuel : Nat → Int32) (a_b_wet : Nat → Int32) (a_b_burns : Nat → Int32) (a_fuel : Nat → Int32) (a_wet : Nat → Int32) (a_burns : Nat → Int32) (e_i_b_lost : I 905 b = i_b_lost) (e_i_lost : I 905 o = i_lost) (e_x0_yard : X 904 o = x0_yard) (e_a_b_fuel : A (b + 1) = a_b_fuel) (e_a_b_wet : A (b + 2) = a_b_wet) (e_a_b_burns : A (b + 4) = a_b_burns) (e_a_fuel : A (o + 1) = a_fuel) (e_a_wet : A (o + 2) = a_wet) (e_a_burns : A (o + 4) = a_burns) (out : Int32 × (Nat → Int32) × (Nat → Int32) × (Nat → Int32)) (hf : f12_be i_b_lost i_lost a_b_fuel a_b_wet a_b_burns a_fuel a_wet a_burns = some out) : GMet l yX12_be cX12_be 2 none (1) (26) G [.ref o, .ref b] K I J X A B Q none K (ov I [(905, o, out.1)]) J (ov X [(904, o, (some y))]) (ova A [((b + 1), a_b_fuel), ((b + 2), a_b_wet), ((b + 4), a_b_burns), ((o + 1), out.2.1), ((o + 2), out.2.2.1), ((o + 4), out.2.2.2)]) B Q 0 0 := by
  refine GMet.of (y := yX12_be) rfl (Nat.le_of_ble_eq_true rfl) rfl ?_
  intro p e s m below meth c ls hx hb hr hml hlocks hts hown hname hG hR hl
  have hown : s.vm.findClass RX12 = some m.cls := hown
  have k_a_b_fuel : K (b + 1) = some (.inr (0, 64)) := (sh_b.2 0 _ rfl).1
  have k_a_b_wet : K (b + 2) = some (.inr (0, 64)) := (sh_b.2 1 _ rfl).1
  have k_a_b_burns : K (b + 4) = some (.inr (1, 64)) := (sh_b.2 3 _ rfl).1
  have k_a_fuel : K (o + 1) = some (.inr (0, 64)) := (sh_o.2 0 _ rfl).1
  have k_a_wet : K (o + 2) = some (.inr (0, 64)) := (sh_o.2 1 _ rfl).1
  have k_a_burns : K (o + 4) = some (.inr (1, 64)) := (sh_o.2 3 _ rfl).1
  have hN_A : nda [(b + 1), (b + 2), (b + 4), (o + 1), (o + 2), (o + 4)] := by simp only [nda, List.nodup_cons, List.mem_cons, List.not_mem_nil, or_false, not_or, not_false_eq_true, List.nodup_nil, and_true]; omega
  have hR : RS G K (ov I [(905, o, i_lost)]) J (ov X [(904, o, x0_yard)]) (ova A [((b + 1), a_b_fuel), ((b + 2), a_b_wet), ((b + 4), a_b_burns), ((o + 1), a_fuel), ((o + 2), a_wet), ((o + 4), a_burns)]) B Q s.heap := hR.to (Eq.symm (ov_sc e_i_lost rfl)) rfl (Eq.symm (ov_sc e_x0_yard rfl)) (Eq.symm (ova_sc e_a_b_fuel (ova_sc e_a_b_wet (ova_sc e_a_b_burns (ova_sc e_a_fuel (ova_sc e_a_wet (ova_sc e_a_burns rfl))))))) rfl rfl
  have hS : va_S (gA G) s.heap s.heap [] := va_S.rf
  have hend : ∀ (pc : Nat) (H : Heap) (locs : List Loc) (ls : Array Slot), decode cX12_be pc = .ok (.return_, 1) → RS G K (ov I [(905, o, out.1)]) J (ov X [(904, o, (some y))]) (ova A [((b + 1), a_b_fuel), ((b + 2), a_b_wet), ((b + 4), a_b_burns), ((o + 1), out.2.1), ((o + 2), out.2.2.1), ((o + 4), out.2.2.2)]) B Q H → va_S (gA G) s.heap H locs → W p l e ({ frames := 1, cells := 0, slots := 0, locals := 26 } : Room) s m ([.ref o, .ref b] : List Value).toArray below meth c H locs 0 0 (MQ below (gQ G none K (ov I [(905, o, out.1)]) J (ov X [(904, o, (some y))]) (ova A [((b + 1), a_b_fuel), ((b + 2), a_b_wet), ((b + 4), a_b_burns), ((o + 1), out.2.1), ((o + 2), out.2.2.1), ((o + 4), out.2.2.2)]) B Q) ([.ref o, .ref b] : List Value).toArray s 0 0 (gA G)) (F0 m pc ls []) := fun pc H locs ls hd hR hS => g_vret hx hb hr hlocks hG hR hS rfl hd
  generalize MQ below (gQ G none K (ov I [(905, o, out.1)]) J (ov X [(904, o, (some y))]) (ova A [((b + 1), a_b_fuel), ((b + 2), a_b_wet), ((b + 4), a_b_burns), ((o + 1), out.2.1), ((o + 2), out.2.2.1), ((o + 4), out.2.2.2)]) B Q) ([.ref o, .ref b] : List Value).toArray s 0 0 (gA G) = Z at hend ⊢
  generalize ([.ref o, .ref b] : List Value).toArray = args at hts hend ⊢
  unfold f12_be at hf
  refine lv_aload_n hx hb dX12_be_0 rfl (lv_at hl 0 rfl) ?_
  refine lv_aload_n hx hb dX12_be_1 rfl (lv_at hl 1 rfl) ?_
  refine g_getr (b := y) hx hb hts hown hG hR gFx_X12_25_9 sh_b.1 ((ov_ne (List.forall_mem_cons.mpr ⟨Or.inr (by show o ≠ b; omega), fun _ h => absurd h List.not_mem_nil⟩)).trans x_b_yard) dX12_be_2 ?_
  refine n_putx (v := (some y)) (li' := [(904, o, (some y))]) hx hb hts hown hG hR hS gPx_X12_25_9 sh_o.1 0 rfl rfl rfl dX12_be_5 (fun H locs hR hS => ?_)
  refine lv_aload_n hx hb dX12_be_8 rfl (lv_at hl 0 rfl) ?_
  refine lv_aload_n hx hb dX12_be_9 rfl (lv_at hl 1 rfl) ?_
  refine n_geti (v := i_b_lost) hx hb hts hown hG hR gFi_X12_29_9 sh_b.1 ((ov_ne (List.forall_mem_cons.mpr ⟨Or.inr (by show o ≠ b; omega), fun _ h => absurd h List.not_mem_nil⟩)).trans e_i_b_lost) dX12_be_10 ?_
  refine n_puti (li' := [(905, o, i_b_lost)]) hx hb hts hown hG hR hS gPi_X12_29_9 sh_o.1 0 rfl rfl rfl dX12_be_13 (fun H locs hR hS => ?_)
  refine lv_aload_n hx hb dX12_be_16 rfl (lv_at hl 1 rfl) ?_
  refine g_getr (b := (b + 1)) hx hb hts hown hG hR gFx_X12_9_9 sh_b.1 ((congrFun (ov_no rfl) _).trans ((sh_b.2 0 _ rfl).2)) dX12_be_17 ?_
  refine lv_iconst (v := 0) hx hb dX12_be_20 li_0 ?_
  refine lv_aload_n hx hb dX12_be_21 rfl (lv_at hl 0 rfl) ?_
  refine g_getr (b := (o + 1)) hx hb hts hown hG hR gFx_X12_9_9 sh_o.1 ((congrFun (ov_no rfl) _).trans ((sh_o.2 0 _ rfl).2)) dX12_be_22 ?_
  refine lv_iconst (v := 0) hx hb dX12_be_25 li_0 ?_
  refine lv_bipush (v := 64) hx hb dX12_be_26 lb_64 ?_
  obtain ⟨c1, hf⟩ := gd_some hf
  obtain ⟨u2, eu2, hf⟩ := lt_some hf
  refine n_copy (la' := [((b + 1), a_b_fuel), ((b + 2), a_b_wet), ((b + 4), a_b_burns), ((o + 1), u2), ((o + 2), a_wet), ((o + 4), a_burns)]) (t := 0) hx hb (hml.trans hl.1.symm) hown (hts _ q1332) (hts _ q1142) (hts _ q1141) (hts _ q126) hG hR hS k_a_b_fuel k_a_fuel (by decide) rfl rfl c1 0 3 hN_A rfl rfl (fun _ _ => rfl) eu2 rfl (Nat.le_of_ble_eq_true rfl) (Nat.le_of_ble_eq_true rfl) dX12_be_28 (fun H locs hR hS => ?_)
  refine lv_aload_n hx hb dX12_be_31 rfl (lv_at hl 1 rfl) ?_
  refine g_getr (b := (b + 2)) hx hb hts hown hG hR gFx_X12_15_9 sh_b.1 ((congrFun (ov_no rfl) _).trans ((sh_b.2 1 _ rfl).2)) dX12_be_32 ?_
  refine lv_iconst (v := 0) hx hb dX12_be_35 li_0 ?_
  refine lv_aload_n hx hb dX12_be_36 rfl (lv_at hl 0 rfl) ?_
  refine g_getr (b := (o + 2)) hx hb hts hown hG hR gFx_X12_15_9 sh_o.1 ((congrFun (ov_no rfl) _).trans ((sh_o.2 1 _ rfl).2)) dX12_be_37 ?_
  refine lv_iconst (v := 0) hx hb dX12_be_40 li_0 ?_
  refine lv_bipush (v := 64) hx hb dX12_be_41 lb_64 ?_
  obtain ⟨c3, hf⟩ := gd_some hf
  obtain ⟨u4, eu4, hf⟩ := lt_some hf
  refine n_copy (la' := [((b + 1), a_b_fuel), ((b + 2), a_b_wet), ((b + 4), a_b_burns), ((o + 1), u2), ((o + 2), u4), ((o + 4), a_burns)]) (t := 0) hx hb (hml.trans hl.1.symm) hown (hts _ q1332) (hts _ q1142) (hts _ q1141) (hts _ q126) hG hR hS k_a_b_wet k_a_wet (by decide) rfl rfl c3 1 4 hN_A rfl rfl (fun _ _ => rfl) eu4 rfl (Nat.le_of_ble_eq_true rfl) (Nat.le_of_ble_eq_true rfl) dX12_be_43 (fun H locs hR hS => ?_)
  refine lv_aload_n hx hb dX12_be_46 rfl (lv_at hl 1 rfl) ?_
  refine g_getr (b := (b + 4)) hx hb hts hown hG hR gFx_X12_21_9 sh_b.1 ((congrFun (ov_no rfl) _).trans ((sh_b.2 3 _ rfl).2)) dX12_be_47 ?_
  refine lv_iconst (v := 0) hx hb dX12_be_50 li_0 ?_
  refine lv_aload_n hx hb dX12_be_51 rfl (lv_at hl 0 rfl) ?_
  refine g_getr (b := (o + 4)) hx hb hts hown hG hR gFx_X12_21_9 sh_o.1 ((congrFun (ov_no rfl) _).trans ((sh_o.2 3 _ rfl).2)) dX12_be_52 ?_
  refine lv_iconst (v := 0) hx hb dX12_be_55 li_0 ?_
  refine lv_bipush (v := 64) hx hb dX12_be_56 lb_64 ?_
  obtain ⟨c5, hf⟩ := gd_some hf
  obtain ⟨c7, hf⟩ := gd_some hf
  obtain ⟨u6, eu6, hf⟩ := lt_some hf
  refine n_copy (la' := [((b + 1), a_b_fuel), ((b + 2), a_b_wet), ((b + 4), a_b_burns), ((o + 1), u2), ((o + 2), u4), ((o + 4), u6)]) (t := 1) hx hb (hml.trans hl.1.symm) hown (hts _ q1332) (hts _ q1142) (hts _ q1141) (hts _ q126) hG hR hS k_a_b_burns k_a_burns (by decide) rfl rfl c5 2 5 hN_A rfl rfl (fun i hi => zb_fits (c7 i hi)) eu6 rfl (Nat.le_of_ble_eq_true rfl) (Nat.le_of_ble_eq_true rfl) dX12_be_58 (fun H locs hR hS => ?_)
  obtain rfl := some_i hf
  exact hend _ _ _ _ dX12_be_61 hR hS
noncomputable def f12_burning_e1_0 (x1_0 : Int32) : Option (Int32) :=
  some x1_0

noncomputable def f12_burning_j25 (w1_1 : Int32) (w1_2 : Int32) (j25_s0 : Int32) : Option ((Int32 × Int32) ⊕ (Int32)) :=
  lt (w1_1 + j25_s0) fun v5 =>
  lt (w1_2 + (1 : Int32)) fun v6 =>
  some (.inl (v5, v6))

noncomputable def f12_burning_s1 (a_burns : Nat → Int32) (w1_1 : Int32) (w1_2 : Int32) : Option ((Int32 × Int32) ⊕ (Int32)) :=
  if (64 : Int32) ≤ w1_2 then
    some (.inr w1_1)
  else
    gd (inb w1_2 64) <|
    lt (a_burns w1_2.toNatClampNeg) fun v4 =>
    if v4 = 0 then
      f12_burning_j25 w1_1 w1_2 (0 : Int32)
    else
      f12_burning_j25 w1_1 w1_2 (1 : Int32)

noncomputable def f12_burning (a_burns : Nat → Int32) : Option (Int32) :=
  (whl (fun (s1 : Int32 × Int32) => f12_burning_s1 a_burns s1.1 s1.2) FU ((0 : Int32), (0 : Int32))).bind fun rl1 =>
  f12_burning_e1_0 rl1
set_option maxHeartbeats 4000000 in
theorem m12_burning (l : Launch) (G : gG) (K : gK) (I : gI) (J : gJ) (X : gX) (A : gI) (B : gJ) (Q : gX) (o : Nat) (sh_o : Sh K X o 9 rows9)  (a_burns : Nat → Int32) (e_a_burns : A (o + 4) = a_burns) (out : Int32) (hf : f12_burning a_burns = some out) : GMet l yX12_burning cX12_burning 3 (some .int) (0) (0) G [.ref o] K I J X A B Q (some (.int out)) K I J X A B Q 0 0 := by
  refine GMet.of (y := yX12_burning) rfl (Nat.le_of_ble_eq_true rfl) rfl ?_
  intro p e s m below meth c ls hx hb hr hml hlocks hts hown hname hG hR hl
  have hown : s.vm.findClass RX12 = some m.cls := hown
  have k_a_burns : K (o + 4) = some (.inr (1, 64)) := (sh_o.2 3 _ rfl).1
  have hR : RS G K I J X A B Q s.heap := hR.to rfl rfl rfl rfl rfl rfl
  have hS : va_S (gA G) s.heap s.heap [] := va_S.rf
  have hend : ∀ (pc : Nat) (H : Heap) (locs : List Loc) (ls : Array Slot), decode cX12_burning pc = .ok (.ireturn, 1) → RS G K I J X A B Q H → va_S (gA G) s.heap H locs → W p l e ({ frames := 0, cells := 0, slots := 0, locals := 0 } : Room) s m ([.ref o] : List Value).toArray below meth c H locs 0 0 (MQ below (gQ G (some (.int out)) K I J X A B Q) ([.ref o] : List Value).toArray s 0 0 (gA G)) (F0 m pc ls [.int out]) := fun pc H locs ls hd hR hS => g_iret hx hb hr hlocks hG hR hS rfl hd
  generalize MQ below (gQ G (some (.int out)) K I J X A B Q) ([.ref o] : List Value).toArray s 0 0 (gA G) = Z at hend ⊢
  generalize ([.ref o] : List Value).toArray = args at hts hend ⊢
  unfold f12_burning at hf
  refine lv_iconst (v := 0) hx hb dX12_burning_0 li_0 ?_
  refine lv_istore_n (lv' := [(1, .int (0 : Int32)), (0, .ref o)]) hx hb dX12_burning_1 rfl hl (by decide) rfl (fun ls hl => ?_)
  refine lv_iconst (v := 0) hx hb dX12_burning_2 li_0 ?_
  refine lv_istore_n (lv' := [(2, .int (0 : Int32)), (1, .int (0 : Int32)), (0, .ref o)]) hx hb dX12_burning_3 rfl hl (by decide) rfl (fun ls hl => ?_)
  obtain ⟨rl1, hw1, hfo1⟩ := bind_s hf
  have hx1_0 : ∀ (x1_0 : Int32), f12_burning_e1_0 x1_0 = some out → ∀ (H : Heap) (locs : List Loc) (ls : Array Slot), RS G K I J X A B Q H → va_S (gA G) s.heap H locs → lv_has ls 3 [(0, .ref o), (1, .int x1_0)] → W p l e ({ frames := 0, cells := 0, slots := 0, locals := 0 } : Room) s m args below meth c H locs 0 0 Z (F0 m 33 ls []) := by
    intro x1_0 hf H locs ls hR hS hl
    unfold f12_burning_e1_0 at hf
    refine lv_iload_n hx hb dX12_burning_33 rfl (lv_at hl 1 rfl) ?_
    obtain rfl := some_i hf
    exact hend _ _ _ _ dX12_burning_34 hR hS
  refine whl_walk (P := fun (s1 : Int32 × Int32) => ∀ (H : Heap) (locs : List Loc) (ls : Array Slot), RS G K I J X A B Q H → va_S (gA G) s.heap H locs → lv_has ls 3 [(0, .ref o), (1, .int s1.1), (2, .int s1.2)] → W p l e ({ frames := 0, cells := 0, slots := 0, locals := 0 } : Room) s m args below meth c H locs 0 0 Z (F0 m 4 ls [])) (r := rl1) ?_ FU _ hw1 _ _ _ hR hS (lv_sub hl [2, 1, 0] rfl)
  clear hR hS hl hf
  intro s1 o1 hf hk1 H locs ls hR hS hl
  obtain ⟨w1_1, w1_2⟩ := s1
  have hf : f12_burning_s1 a_burns w1_1 w1_2 = some o1 := hf
  have hR : RS G K I J X A B Q H := hR
  have hl : lv_has ls 3 [(0, .ref o), (1, .int w1_1), (2, .int w1_2)] := hl
  unfold f12_burning_s1 at hf
  refine lv_iload_n hx hb dX12_burning_4 rfl (lv_at hl 2 rfl) ?_
  refine lv_bipush (v := 64) hx hb dX12_burning_5 lb_64 ?_
  refine lv_icmp_ge (tgt := 33) hx hb dX12_burning_7 (by decide) (fun c2 => ?_) (fun c2 => ?_)
  · have hf := ite_t c2 hf
    obtain rfl := some_i hf
    replace hk1 : _ = rl1 := hk1
    subst hk1
    exact hx1_0 w1_1 hfo1 _ _ _ hR hS (lv_sub hl [0, 1] rfl)
  · have hf := ite_f c2 hf
    refine lv_iload_n hx hb dX12_burning_10 rfl (lv_at hl 1 rfl) ?_
    refine lv_aload_n hx hb dX12_burning_11 rfl (lv_at hl 0 rfl) ?_
    refine g_getr (b := (o + 4)) hx hb hts hown hG hR gFx_X12_21_9 sh_o.1 ((sh_o.2 3 _ rfl).2) dX12_burning_12 ?_
    refine lv_iload_n hx hb dX12_burning_15 rfl (lv_at hl 2 rfl) ?_
    obtain ⟨c3, hf⟩ := gd_some hf
    obtain ⟨v4, ev4, hf⟩ := lt_some hf
    refine n_zald (x := a_burns) hx hb hG hR k_a_burns c3 e_a_burns ev4 dX12_burning_16 ?_
    have hj25 : ∀ (j25_s0 : Int32), f12_burning_j25 w1_1 w1_2 j25_s0 = some o1 → ∀ (H : Heap) (locs : List Loc) (ls : Array Slot), RS G K I J X A B Q H → va_S (gA G) s.heap H locs → lv_has ls 3 [(0, .ref o), (2, .int w1_2)] → W p l e ({ frames := 0, cells := 0, slots := 0, locals := 0 } : Room) s m args below meth c H locs 0 0 Z (F0 m 25 ls [.int j25_s0, .int w1_1]) := by
      intro j25_s0 hf H locs ls hR hS hl
      unfold f12_burning_j25 at hf
      obtain ⟨v5, ev5, hf⟩ := lt_some hf
      refine n_iadd hx hb ev5 dX12_burning_25 ?_
      refine lv_istore_n (lv' := [(1, .int v5), (0, .ref o), (2, .int w1_2)]) hx hb dX12_burning_26 rfl hl (by decide) rfl (fun ls hl => ?_)
      obtain ⟨v6, ev6, hf⟩ := lt_some hf
      refine lv_iinc (k := 2) (v := v6) (lv' := [(2, .int v6), (1, .int v5), (0, .ref o)]) hx hb dX12_burning_27 hl rfl (by rw [ev6]; rfl) (by decide) rfl (fun ls hl => ?_)
      refine lv_goto (tgt := 4) hx hb dX12_burning_30 (by decide) ?_
      obtain rfl := some_i hf
      exact hk1 _ _ _ hR hS (lv_sub hl [2, 1, 0] rfl)
    refine lv_if_eq (tgt := 24) hx hb dX12_burning_17 (by decide) (fun c7 => ?_) (fun c7 => ?_)
    · have hf := ite_t c7 hf
      refine lv_iconst (v := 0) hx hb dX12_burning_24 li_0 ?_
      exact hj25 (0 : Int32) hf _ _ _ hR hS (lv_sub hl [0, 2] rfl)
    · have hf := ite_f c7 hf
      refine lv_iconst (v := 1) hx hb dX12_burning_20 li_1 ?_
      refine lv_goto (tgt := 25) hx hb dX12_burning_21 (by decide) ?_
      exact hj25 (1 : Int32) hf _ _ _ hR hS (lv_sub hl [0, 2] rfl)
noncomputable def f12_gives_j89 (v11 : Int32) : Option (Int32) :=
  some v11

noncomputable def f12_gives (p1 : Int32) (p2 : Int32) (p3 : Int32) (i_y_columns : Int32) (i_y_rows : Int32) (i_y_wind : Int32) (a_fuel : Nat → Int32) (a_burns : Nat → Int32) : Option (Int32) :=
  (f4_isCell p1 p2 i_y_columns i_y_rows).bind fun rr1 =>
  if rr1 = 0 then
    some (0 : Int32)
  else
    lt ((8 : Int32) * p2) fun v3 =>
    lt (v3 + p1) fun v4 =>
    gd (inb v4 64) <|
    lt (a_burns v4.toNatClampNeg) fun v6 =>
    if v6 = 0 then
      some (0 : Int32)
    else
      lt ((8 : Int32) * p2) fun v8 =>
      lt (v8 + p1) fun v9 =>
      gd (inb v9 64) <|
      lt (a_fuel v9.toNatClampNeg) fun v11 =>
      if i_y_wind = p3 then
        lt ((2 : Int32) * v11) fun v18 =>
        some v18
      else
        if i_y_wind = (-1 : Int32) then
          f12_gives_j89 v11
        else
          lt (p3 + (2 : Int32)) fun v14 =>
          gd (¬ (4 : Int32) = 0) <|
          lt (v14 - v14 / (4 : Int32) * (4 : Int32)) fun v15 =>
          if i_y_wind = v15 then
            some (0 : Int32)
          else
            f12_gives_j89 v11
set_option maxHeartbeats 4000000 in
theorem m12_gives (l : Launch) (G : gG) (K : gK) (I : gI) (J : gJ) (X : gX) (A : gI) (B : gJ) (Q : gX) (o : Nat) (y : Nat) (sh_o : Sh K X o 9 rows9) (sh_y : Sh K X y 3 rows3) (x_o_yard : X 904 o = some y) (p1 : Int32) (p2 : Int32) (p3 : Int32) (i_y_columns : Int32) (i_y_rows : Int32) (i_y_wind : Int32) (a_fuel : Nat → Int32) (a_burns : Nat → Int32) (e_i_y_columns : I 304 y = i_y_columns) (e_i_y_rows : I 305 y = i_y_rows) (e_i_y_wind : I 314 y = i_y_wind) (e_a_fuel : A (o + 1) = a_fuel) (e_a_burns : A (o + 4) = a_burns) (out : Int32) (hf : f12_gives p1 p2 p3 i_y_columns i_y_rows i_y_wind a_fuel a_burns = some out) : GMet l yX12_gives cX12_gives 5 (some .int) (2) (44) G [.ref o, .int p1, .int p2, .int p3] K I J X A B Q (some (.int out)) K I J X A B Q 0 0 := by
  refine GMet.of (y := yX12_gives) rfl (Nat.le_of_ble_eq_true rfl) rfl ?_
  intro p e s m below meth c ls hx hb hr hml hlocks hts hown hname hG hR hl
  have hown : s.vm.findClass RX12 = some m.cls := hown
  have k_a_fuel : K (o + 1) = some (.inr (0, 64)) := (sh_o.2 0 _ rfl).1
  have k_a_burns : K (o + 4) = some (.inr (1, 64)) := (sh_o.2 3 _ rfl).1
  have hR : RS G K I J X A B Q s.heap := hR.to rfl rfl rfl rfl rfl rfl
  have hS : va_S (gA G) s.heap s.heap [] := va_S.rf
  have hend : ∀ (pc : Nat) (H : Heap) (locs : List Loc) (ls : Array Slot), decode cX12_gives pc = .ok (.ireturn, 1) → RS G K I J X A B Q H → va_S (gA G) s.heap H locs → W p l e ({ frames := 2, cells := 0, slots := 0, locals := 44 } : Room) s m ([.ref o, .int p1, .int p2, .int p3] : List Value).toArray below meth c H locs 0 0 (MQ below (gQ G (some (.int out)) K I J X A B Q) ([.ref o, .int p1, .int p2, .int p3] : List Value).toArray s 0 0 (gA G)) (F0 m pc ls [.int out]) := fun pc H locs ls hd hR hS => g_iret hx hb hr hlocks hG hR hS rfl hd
  generalize MQ below (gQ G (some (.int out)) K I J X A B Q) ([.ref o, .int p1, .int p2, .int p3] : List Value).toArray s 0 0 (gA G) = Z at hend ⊢
  generalize ([.ref o, .int p1, .int p2, .int p3] : List Value).toArray = args at hts hend ⊢
  unfold f12_gives at hf
  refine lv_aload_n hx hb dX12_gives_0 rfl (lv_at hl 0 rfl) ?_
  refine g_getr (b := y) hx hb hts hown hG hR gFx_X12_25_9 sh_o.1 x_o_yard dX12_gives_1 ?_
  refine lv_iload_n hx hb dX12_gives_4 rfl (lv_at hl 1 rfl) ?_
  refine lv_iload_n hx hb dX12_gives_5 rfl (lv_at hl 2 rfl) ?_
  obtain ⟨rr1, hrr1, hf⟩ := bind_s hf
  refine g0_cV (rm := (1, 22)) (As := [.int p1, .int p2]) (rest := []) ⟨hx, hb, hml, hown, hts⟩ hG hR hS (m4_isCell l G K I J X A B Q y sh_y p1 p2 i_y_columns i_y_rows e_i_y_columns e_i_y_rows rr1 hrr1) (cwV 2 hts gi_X12_43 rfl rfl rfl hd_X4_isCell ⟨Nat.le_of_ble_eq_true rfl, Nat.le_of_ble_eq_true rfl⟩) sh_y.1 rfl rfl hl.1 (Nat.le_of_ble_eq_true rfl) dX12_gives_6 ⟨Nat.le_refl _, Nat.le_refl _⟩ rfl (fun H locs hR hS => ?_)
  refine lv_if_eq (tgt := 26) hx hb dX12_gives_9 (by decide) (fun c2 => ?_) (fun c2 => ?_)
  · have hf := ite_t c2 hf
    refine lv_iconst (v := 0) hx hb dX12_gives_26 li_0 ?_
    obtain rfl := some_i hf
    exact hend _ _ _ _ dX12_gives_27 hR hS
  · have hf := ite_f c2 hf
    refine lv_aload_n hx hb dX12_gives_12 rfl (lv_at hl 0 rfl) ?_
    refine g_getr (b := (o + 4)) hx hb hts hown hG hR gFx_X12_21_9 sh_o.1 ((sh_o.2 3 _ rfl).2) dX12_gives_13 ?_
    refine lv_bipush (v := 8) hx hb dX12_gives_16 lb_8 ?_
    refine lv_iload_n hx hb dX12_gives_18 rfl (lv_at hl 2 rfl) ?_
    obtain ⟨v3, ev3, hf⟩ := lt_some hf
    refine n_imul hx hb ev3 dX12_gives_19 ?_
    refine lv_iload_n hx hb dX12_gives_20 rfl (lv_at hl 1 rfl) ?_
    obtain ⟨v4, ev4, hf⟩ := lt_some hf
    refine n_iadd hx hb ev4 dX12_gives_21 ?_
    obtain ⟨c5, hf⟩ := gd_some hf
    obtain ⟨v6, ev6, hf⟩ := lt_some hf
    refine n_zald (x := a_burns) hx hb hG hR k_a_burns c5 e_a_burns ev6 dX12_gives_22 ?_
    refine lv_if_ne (tgt := 28) hx hb dX12_gives_23 (by decide) (fun c7 => ?_) (fun c7 => ?_)
    · have hf := ite_f c7 hf
      refine lv_aload_n hx hb dX12_gives_28 rfl (lv_at hl 0 rfl) ?_
      refine g_getr (b := (o + 1)) hx hb hts hown hG hR gFx_X12_9_9 sh_o.1 ((sh_o.2 0 _ rfl).2) dX12_gives_29 ?_
      refine lv_bipush (v := 8) hx hb dX12_gives_32 lb_8 ?_
      refine lv_iload_n hx hb dX12_gives_34 rfl (lv_at hl 2 rfl) ?_
      obtain ⟨v8, ev8, hf⟩ := lt_some hf
      refine n_imul hx hb ev8 dX12_gives_35 ?_
      refine lv_iload_n hx hb dX12_gives_36 rfl (lv_at hl 1 rfl) ?_
      obtain ⟨v9, ev9, hf⟩ := lt_some hf
      refine n_iadd hx hb ev9 dX12_gives_37 ?_
      obtain ⟨c10, hf⟩ := gd_some hf
      obtain ⟨v11, ev11, hf⟩ := lt_some hf
      refine n_iald (x := a_fuel) hx hb hG hR k_a_fuel c10 e_a_fuel ev11 dX12_gives_38 ?_
      refine lv_istore (lv' := [(4, .int v11), (0, .ref o), (1, .int p1), (2, .int p2), (3, .int p3)]) hx hb dX12_gives_39 hl (by decide) rfl (fun ls hl => ?_)
      refine lv_aload_n hx hb dX12_gives_41 rfl (lv_at hl 1 rfl) ?_
      refine g_getr (b := y) hx hb hts hown hG hR gFx_X12_25_9 sh_o.1 x_o_yard dX12_gives_42 ?_
      refine n_geti (v := i_y_wind) hx hb hts hown hG hR gFi_X12_47_3 sh_y.1 e_i_y_wind dX12_gives_45 ?_
      refine lv_iload_n hx hb dX12_gives_48 rfl (lv_at hl 4 rfl) ?_
      refine lv_icmp_ne (tgt := 59) hx hb dX12_gives_49 (by decide) (fun c12 => ?_) (fun c12 => ?_)
      · have hf := ite_f c12 hf
        refine lv_aload_n hx hb dX12_gives_59 rfl (lv_at hl 1 rfl) ?_
        refine g_getr (b := y) hx hb hts hown hG hR gFx_X12_25_9 sh_o.1 x_o_yard dX12_gives_60 ?_
        refine n_geti (v := i_y_wind) hx hb hts hown hG hR gFi_X12_47_3 sh_y.1 e_i_y_wind dX12_gives_63 ?_
        refine lv_iconst (v := -1) hx hb dX12_gives_66 li_m1 ?_
        have hj89 : ∀ (_ : Unit), f12_gives_j89 v11 = some out → ∀ (H : Heap) (locs : List Loc) (ls : Array Slot), RS G K I J X A B Q H → va_S (gA G) s.heap H locs → lv_has ls 5 [(0, .ref o), (4, .int v11)] → W p l e ({ frames := 2, cells := 0, slots := 0, locals := 44 } : Room) s m args below meth c H locs 0 0 Z (F0 m 89 ls []) := by
          intro _ hf H locs ls hR hS hl
          unfold f12_gives_j89 at hf
          refine lv_iload hx hb dX12_gives_89 (lv_at hl 1 rfl) ?_
          obtain rfl := some_i hf
          exact hend _ _ _ _ dX12_gives_91 hR hS
        refine lv_icmp_eq (tgt := 89) hx hb dX12_gives_67 (by decide) (fun c13 => ?_) (fun c13 => ?_)
        · have hf := ite_t c13 hf
          exact hj89 () hf _ _ _ hR hS (lv_sub hl [1, 0] rfl)
        · have hf := ite_f c13 hf
          refine lv_aload_n hx hb dX12_gives_70 rfl (lv_at hl 1 rfl) ?_
          refine g_getr (b := y) hx hb hts hown hG hR gFx_X12_25_9 sh_o.1 x_o_yard dX12_gives_71 ?_
          refine n_geti (v := i_y_wind) hx hb hts hown hG hR gFi_X12_47_3 sh_y.1 e_i_y_wind dX12_gives_74 ?_
          refine lv_iload_n hx hb dX12_gives_77 rfl (lv_at hl 4 rfl) ?_
          refine lv_iconst (v := 2) hx hb dX12_gives_78 li_2 ?_
          obtain ⟨v14, ev14, hf⟩ := lt_some hf
          refine n_iadd hx hb ev14 dX12_gives_79 ?_
          refine lv_iconst (v := 4) hx hb dX12_gives_80 li_4 ?_
          obtain ⟨c16, hf⟩ := gd_some hf
          obtain ⟨v15, ev15, hf⟩ := lt_some hf
          refine n_irem hx hb c16 ev15 dX12_gives_81 ?_
          refine lv_icmp_ne (tgt := 89) hx hb dX12_gives_82 (by decide) (fun c17 => ?_) (fun c17 => ?_)
          · have hf := ite_f c17 hf
            exact hj89 () hf _ _ _ hR hS (lv_sub hl [1, 0] rfl)
          · have hf := ite_t c17 hf
            refine lv_iconst (v := 0) hx hb dX12_gives_85 li_0 ?_
            refine lv_goto (tgt := 91) hx hb dX12_gives_86 (by decide) ?_
            obtain rfl := some_i hf
            exact hend _ _ _ _ dX12_gives_91 hR hS
      · have hf := ite_t c12 hf
        refine lv_iconst (v := 2) hx hb dX12_gives_52 li_2 ?_
        refine lv_iload hx hb dX12_gives_53 (lv_at hl 0 rfl) ?_
        obtain ⟨v18, ev18, hf⟩ := lt_some hf
        refine n_imul hx hb ev18 dX12_gives_55 ?_
        refine lv_goto (tgt := 91) hx hb dX12_gives_56 (by decide) ?_
        obtain rfl := some_i hf
        exact hend _ _ _ _ dX12_gives_91 hR hS
    · have hf := ite_t c7 hf
      refine lv_iconst (v := 0) hx hb dX12_gives_26 li_0 ?_
      obtain rfl := some_i hf
      exact hend _ _ _ _ dX12_gives_27 hR hS
noncomputable def f12_warm_e1_0 (x1_0 : (Nat → Int32)) : Option ((Nat → Int32)) :=
  some x1_0

noncomputable def f12_warm_e3_0 (w1_1 : Int32) (x3_0 : (Nat → Int32)) : Option ((Int32 × (Nat → Int32)) ⊕ ((Nat → Int32))) :=
  lt (w1_1 + (1 : Int32)) fun v4 =>
  some (.inl (v4, x3_0))

noncomputable def f12_warm_j99 (w3_2 : Int32) (w3_a_heat : Nat → Int32) (v7 : Int32) (j99_s0 : Int32) : Option ((Int32 × (Nat → Int32)) ⊕ ((Nat → Int32))) :=
  gd (inb v7 64) <|
  lt (upd w3_a_heat v7.toNatClampNeg j99_s0) fun u11 =>
  lt (w3_2 + (1 : Int32)) fun v12 =>
  some (.inl (v12, u11))

noncomputable def f12_warm_j56 (w3_2 : Int32) (w3_a_heat : Nat → Int32) (v7 : Int32) : Option ((Int32 × (Nat → Int32)) ⊕ ((Nat → Int32))) :=
  f12_warm_j99 w3_2 w3_a_heat v7 (0 : Int32)

noncomputable def f12_warm_s3 (i_y_columns : Int32) (i_y_rows : Int32) (i_y_wind : Int32) (a_fuel : Nat → Int32) (a_burns : Nat → Int32) (w1_1 : Int32) (w3_2 : Int32) (w3_a_heat : Nat → Int32) : Option ((Int32 × (Nat → Int32)) ⊕ ((Nat → Int32))) :=
  if i_y_columns ≤ w3_2 then
    some (.inr w3_a_heat)
  else
    lt ((8 : Int32) * w1_1) fun v6 =>
    lt (v6 + w3_2) fun v7 =>
    gd (inb v7 64) <|
    lt (a_burns v7.toNatClampNeg) fun v9 =>
    if v9 = 0 then
      gd (inb v7 64) <|
      lt (a_fuel v7.toNatClampNeg) fun v15 =>
      if v15 = 0 then
        f12_warm_j56 w3_2 w3_a_heat v7
      else
        lt (w1_1 + (1 : Int32)) fun v17 =>
        (f12_gives w3_2 v17 (0 : Int32) i_y_columns i_y_rows i_y_wind a_fuel a_burns).bind fun rr18 =>
        lt (w3_2 - (1 : Int32)) fun v19 =>
        (f12_gives v19 w1_1 (1 : Int32) i_y_columns i_y_rows i_y_wind a_fuel a_burns).bind fun rr20 =>
        lt (rr18 + rr20) fun v21 =>
        lt (w1_1 - (1 : Int32)) fun v22 =>
        (f12_gives w3_2 v22 (2 : Int32) i_y_columns i_y_rows i_y_wind a_fuel a_burns).bind fun rr23 =>
        lt (v21 + rr23) fun v24 =>
        lt (w3_2 + (1 : Int32)) fun v25 =>
        (f12_gives v25 w1_1 (3 : Int32) i_y_columns i_y_rows i_y_wind a_fuel a_burns).bind fun rr26 =>
        lt (v24 + rr26) fun v27 =>
        f12_warm_j99 w3_2 w3_a_heat v7 v27
    else
      f12_warm_j56 w3_2 w3_a_heat v7

noncomputable def f12_warm_s1 (i_y_columns : Int32) (i_y_rows : Int32) (i_y_wind : Int32) (a_fuel : Nat → Int32) (a_burns : Nat → Int32) (w1_1 : Int32) (w1_a_heat : Nat → Int32) : Option ((Int32 × (Nat → Int32)) ⊕ ((Nat → Int32))) :=
  if i_y_rows ≤ w1_1 then
    some (.inr w1_a_heat)
  else
    (whl (fun (s3 : Int32 × (Nat → Int32)) => f12_warm_s3 i_y_columns i_y_rows i_y_wind a_fuel a_burns w1_1 s3.1 s3.2) FU ((0 : Int32), w1_a_heat)).bind fun rl3 =>
    f12_warm_e3_0 w1_1 rl3

noncomputable def f12_warm (i_y_columns : Int32) (i_y_rows : Int32) (i_y_wind : Int32) (a_fuel : Nat → Int32) (a_heat : Nat → Int32) (a_burns : Nat → Int32) : Option ((Nat → Int32)) :=
  (whl (fun (s1 : Int32 × (Nat → Int32)) => f12_warm_s1 i_y_columns i_y_rows i_y_wind a_fuel a_burns s1.1 s1.2) FU ((0 : Int32), a_heat)).bind fun rl1 =>
  f12_warm_e1_0 rl1
set_option maxHeartbeats 4000000 in
theorem m12_warm (l : Launch) (G : gG) (K : gK) (I : gI) (J : gJ) (X : gX) (A : gI) (B : gJ) (Q : gX) (o : Nat) (y : Nat) (sh_o : Sh K X o 9 rows9) (sh_y : Sh K X y 3 rows3) (x_o_yard : X 904 o = some y)  (i_y_columns : Int32) (i_y_rows : Int32) (i_y_wind : Int32) (a_fuel : Nat → Int32) (a_heat : Nat → Int32) (a_burns : Nat → Int32) (e_i_y_columns : I 304 y = i_y_columns) (e_i_y_rows : I 305 y = i_y_rows) (e_i_y_wind : I 314 y = i_y_wind) (e_a_fuel : A (o + 1) = a_fuel) (e_a_heat : A (o + 3) = a_heat) (e_a_burns : A (o + 4) = a_burns) (out : (Nat → Int32)) (hf : f12_warm i_y_columns i_y_rows i_y_wind a_fuel a_heat a_burns = some out) : GMet l yX12_warm cX12_warm 4 none (3) (68) G [.ref o] K I J X A B Q none K I J X (ova A [((o + 1), a_fuel), ((o + 3), out), ((o + 4), a_burns)]) B Q 0 0 := by
  refine GMet.of (y := yX12_warm) rfl (Nat.le_of_ble_eq_true rfl) rfl ?_
  intro p e s m below meth c ls hx hb hr hml hlocks hts hown hname hG hR hl
  have hown : s.vm.findClass RX12 = some m.cls := hown
  have k_a_fuel : K (o + 1) = some (.inr (0, 64)) := (sh_o.2 0 _ rfl).1
  have k_a_heat : K (o + 3) = some (.inr (0, 64)) := (sh_o.2 2 _ rfl).1
  have k_a_burns : K (o + 4) = some (.inr (1, 64)) := (sh_o.2 3 _ rfl).1
  have hN_A : nda [(o + 1), (o + 3), (o + 4)] := nd_off o [1, 3, 4] rfl
  have hR : RS G K I J X (ova A [((o + 1), a_fuel), ((o + 3), a_heat), ((o + 4), a_burns)]) B Q s.heap := hR.to rfl rfl rfl (Eq.symm (ova_sc e_a_fuel (ova_sc e_a_heat (ova_sc e_a_burns rfl)))) rfl rfl
  have hS : va_S (gA G) s.heap s.heap [] := va_S.rf
  have hend : ∀ (pc : Nat) (H : Heap) (locs : List Loc) (ls : Array Slot), decode cX12_warm pc = .ok (.return_, 1) → RS G K I J X (ova A [((o + 1), a_fuel), ((o + 3), out), ((o + 4), a_burns)]) B Q H → va_S (gA G) s.heap H locs → W p l e ({ frames := 3, cells := 0, slots := 0, locals := 68 } : Room) s m ([.ref o] : List Value).toArray below meth c H locs 0 0 (MQ below (gQ G none K I J X (ova A [((o + 1), a_fuel), ((o + 3), out), ((o + 4), a_burns)]) B Q) ([.ref o] : List Value).toArray s 0 0 (gA G)) (F0 m pc ls []) := fun pc H locs ls hd hR hS => g_vret hx hb hr hlocks hG hR hS rfl hd
  generalize MQ below (gQ G none K I J X (ova A [((o + 1), a_fuel), ((o + 3), out), ((o + 4), a_burns)]) B Q) ([.ref o] : List Value).toArray s 0 0 (gA G) = Z at hend ⊢
  generalize ([.ref o] : List Value).toArray = args at hts hend ⊢
  unfold f12_warm at hf
  refine lv_iconst (v := 0) hx hb dX12_warm_0 li_0 ?_
  refine lv_istore_n (lv' := [(1, .int (0 : Int32)), (0, .ref o)]) hx hb dX12_warm_1 rfl hl (by decide) rfl (fun ls hl => ?_)
  obtain ⟨rl1, hw1, hfo1⟩ := bind_s hf
  have hx1_0 : ∀ (x1_0 : (Nat → Int32)), f12_warm_e1_0 x1_0 = some out → ∀ (pc : Nat) (H : Heap) (locs : List Loc) (ls : Array Slot), decode cX12_warm pc = .ok (.return_, 1) → RS G K I J X (ova A [((o + 1), a_fuel), ((o + 3), x1_0), ((o + 4), a_burns)]) B Q H → va_S (gA G) s.heap H locs → W p l e ({ frames := 3, cells := 0, slots := 0, locals := 68 } : Room) s m args below meth c H locs 0 0 Z (F0 m pc ls []) := by
    intro x1_0 hf pc H locs ls hd hR hS
    unfold f12_warm_e1_0 at hf
    obtain rfl := some_i hf
    exact hend _ _ _ _ hd hR hS
  refine whl_walk (P := fun (s1 : Int32 × (Nat → Int32)) => ∀ (H : Heap) (locs : List Loc) (ls : Array Slot), RS G K I J X (ova A [((o + 1), a_fuel), ((o + 3), s1.2), ((o + 4), a_burns)]) B Q H → va_S (gA G) s.heap H locs → lv_has ls 4 [(0, .ref o), (1, .int s1.1)] → W p l e ({ frames := 3, cells := 0, slots := 0, locals := 68 } : Room) s m args below meth c H locs 0 0 Z (F0 m 2 ls [])) (r := rl1) ?_ FU _ hw1 _ _ _ hR hS (lv_sub hl [1, 0] rfl)
  clear hR hS hl hf
  intro s1 o1 hf hk1 H locs ls hR hS hl
  obtain ⟨w1_1, w1_a_heat⟩ := s1
  have hf : f12_warm_s1 i_y_columns i_y_rows i_y_wind a_fuel a_burns w1_1 w1_a_heat = some o1 := hf
  have hR : RS G K I J X (ova A [((o + 1), a_fuel), ((o + 3), w1_a_heat), ((o + 4), a_burns)]) B Q H := hR
  have hl : lv_has ls 4 [(0, .ref o), (1, .int w1_1)] := hl
  unfold f12_warm_s1 at hf
  refine lv_iload_n hx hb dX12_warm_2 rfl (lv_at hl 1 rfl) ?_
  refine lv_aload_n hx hb dX12_warm_3 rfl (lv_at hl 0 rfl) ?_
  refine g_getr (b := y) hx hb hts hown hG hR gFx_X12_25_9 sh_o.1 x_o_yard dX12_warm_4 ?_
  refine n_geti (v := i_y_rows) hx hb hts hown hG hR gFi_X12_50_3 sh_y.1 e_i_y_rows dX12_warm_7 ?_
  refine lv_icmp_ge (tgt := 112) hx hb dX12_warm_10 (by decide) (fun c2 => ?_) (fun c2 => ?_)
  · have hf := ite_t c2 hf
    obtain rfl := some_i hf
    replace hk1 : _ = rl1 := hk1
    subst hk1
    exact hx1_0 w1_a_heat hfo1 _ _ _ _ dX12_warm_112 hR hS
  · have hf := ite_f c2 hf
    refine lv_iconst (v := 0) hx hb dX12_warm_13 li_0 ?_
    refine lv_istore_n (lv' := [(2, .int (0 : Int32)), (0, .ref o), (1, .int w1_1)]) hx hb dX12_warm_14 rfl hl (by decide) rfl (fun ls hl => ?_)
    obtain ⟨rl3, hw3, hfo3⟩ := bind_s hf
    have hx3_0 : ∀ (x3_0 : (Nat → Int32)), f12_warm_e3_0 w1_1 x3_0 = some o1 → ∀ (H : Heap) (locs : List Loc) (ls : Array Slot), RS G K I J X (ova A [((o + 1), a_fuel), ((o + 3), x3_0), ((o + 4), a_burns)]) B Q H → va_S (gA G) s.heap H locs → lv_has ls 4 [(0, .ref o), (1, .int w1_1)] → W p l e ({ frames := 3, cells := 0, slots := 0, locals := 68 } : Room) s m args below meth c H locs 0 0 Z (F0 m 106 ls []) := by
      intro x3_0 hf H locs ls hR hS hl
      unfold f12_warm_e3_0 at hf
      obtain ⟨v4, ev4, hf⟩ := lt_some hf
      refine lv_iinc (k := 1) (v := v4) (lv' := [(1, .int v4), (0, .ref o)]) hx hb dX12_warm_106 hl rfl (by rw [ev4]; rfl) (by decide) rfl (fun ls hl => ?_)
      refine lv_goto (tgt := 2) hx hb dX12_warm_109 (by decide) ?_
      obtain rfl := some_i hf
      exact hk1 _ _ _ hR hS (lv_sub hl [1, 0] rfl)
    refine whl_walk (P := fun (s3 : Int32 × (Nat → Int32)) => ∀ (H : Heap) (locs : List Loc) (ls : Array Slot), RS G K I J X (ova A [((o + 1), a_fuel), ((o + 3), s3.2), ((o + 4), a_burns)]) B Q H → va_S (gA G) s.heap H locs → lv_has ls 4 [(0, .ref o), (1, .int w1_1), (2, .int s3.1)] → W p l e ({ frames := 3, cells := 0, slots := 0, locals := 68 } : Room) s m args below meth c H locs 0 0 Z (F0 m 15 ls [])) (r := rl3) ?_ FU _ hw3 _ _ _ hR hS (lv_sub hl [1, 2, 0] rfl)
    clear hR hS hl hf
    intro s3 o3 hf hk3 H locs ls hR hS hl
    obtain ⟨w3_2, w3_a_heat⟩ := s3
    have hf : f12_warm_s3 i_y_columns i_y_rows i_y_wind a_fuel a_burns w1_1 w3_2 w3_a_heat = some o3 := hf
    have hR : RS G K I J X (ova A [((o + 1), a_fuel), ((o + 3), w3_a_heat), ((o + 4), a_burns)]) B Q H := hR
    have hl : lv_has ls 4 [(0, .ref o), (1, .int w1_1), (2, .int w3_2)] := hl
    unfold f12_warm_s3 at hf
    refine lv_iload_n hx hb dX12_warm_15 rfl (lv_at hl 2 rfl) ?_
    refine lv_aload_n hx hb dX12_warm_16 rfl (lv_at hl 0 rfl) ?_
    refine g_getr (b := y) hx hb hts hown hG hR gFx_X12_25_9 sh_o.1 x_o_yard dX12_warm_17 ?_
    refine n_geti (v := i_y_columns) hx hb hts hown hG hR gFi_X12_53_3 sh_y.1 e_i_y_columns dX12_warm_20 ?_
    refine lv_icmp_ge (tgt := 106) hx hb dX12_warm_23 (by decide) (fun c5 => ?_) (fun c5 => ?_)
    · have hf := ite_t c5 hf
      obtain rfl := some_i hf
      replace hk3 : _ = rl3 := hk3
      subst hk3
      exact hx3_0 w3_a_heat hfo3 _ _ _ hR hS (lv_sub hl [0, 1] rfl)
    · have hf := ite_f c5 hf
      refine lv_bipush (v := 8) hx hb dX12_warm_26 lb_8 ?_
      refine lv_iload_n hx hb dX12_warm_28 rfl (lv_at hl 1 rfl) ?_
      obtain ⟨v6, ev6, hf⟩ := lt_some hf
      refine n_imul hx hb ev6 dX12_warm_29 ?_
      refine lv_iload_n hx hb dX12_warm_30 rfl (lv_at hl 2 rfl) ?_
      obtain ⟨v7, ev7, hf⟩ := lt_some hf
      refine n_iadd hx hb ev7 dX12_warm_31 ?_
      refine lv_istore_n (lv' := [(3, .int v7), (0, .ref o), (1, .int w1_1), (2, .int w3_2)]) hx hb dX12_warm_32 rfl hl (by decide) rfl (fun ls hl => ?_)
      refine lv_aload_n hx hb dX12_warm_33 rfl (lv_at hl 1 rfl) ?_
      refine g_getr (b := (o + 3)) hx hb hts hown hG hR gFx_X12_18_9 sh_o.1 ((sh_o.2 2 _ rfl).2) dX12_warm_34 ?_
      refine lv_iload_n hx hb dX12_warm_37 rfl (lv_at hl 0 rfl) ?_
      refine lv_aload_n hx hb dX12_warm_38 rfl (lv_at hl 1 rfl) ?_
      refine g_getr (b := (o + 4)) hx hb hts hown hG hR gFx_X12_21_9 sh_o.1 ((sh_o.2 3 _ rfl).2) dX12_warm_39 ?_
      refine lv_iload_n hx hb dX12_warm_42 rfl (lv_at hl 0 rfl) ?_
      obtain ⟨c8, hf⟩ := gd_some hf
      obtain ⟨v9, ev9, hf⟩ := lt_some hf
      refine n_zald (x := a_burns) hx hb hG hR k_a_burns c8 (ova_get 2 hN_A rfl) ev9 dX12_warm_43 ?_
      have hj99 : ∀ (j99_s0 : Int32), f12_warm_j99 w3_2 w3_a_heat v7 j99_s0 = some o3 → ∀ (H : Heap) (locs : List Loc) (ls : Array Slot), RS G K I J X (ova A [((o + 1), a_fuel), ((o + 3), w3_a_heat), ((o + 4), a_burns)]) B Q H → va_S (gA G) s.heap H locs → lv_has ls 4 [(0, .ref o), (1, .int w1_1), (2, .int w3_2)] → W p l e ({ frames := 3, cells := 0, slots := 0, locals := 68 } : Room) s m args below meth c H locs 0 0 Z (F0 m 99 ls [.int j99_s0, .int v7, .ref (o + 3)]) := by
        intro j99_s0 hf H locs ls hR hS hl
        unfold f12_warm_j99 at hf
        obtain ⟨c10, hf⟩ := gd_some hf
        obtain ⟨u11, eu11, hf⟩ := lt_some hf
        refine n_iast (la' := [((o + 1), a_fuel), ((o + 3), u11), ((o + 4), a_burns)]) hx hb hG hR hS k_a_heat c10 hN_A 1 rfl eu11 rfl dX12_warm_99 (fun H locs hR hS => ?_)
        obtain ⟨v12, ev12, hf⟩ := lt_some hf
        refine lv_iinc (k := 2) (v := v12) (lv' := [(2, .int v12), (0, .ref o), (1, .int w1_1)]) hx hb dX12_warm_100 hl rfl (by rw [ev12]; rfl) (by decide) rfl (fun ls hl => ?_)
        refine lv_goto (tgt := 15) hx hb dX12_warm_103 (by decide) ?_
        obtain rfl := some_i hf
        exact hk3 _ _ _ hR hS (lv_sub hl [1, 2, 0] rfl)
      have hj56 : ∀ (_ : Unit), f12_warm_j56 w3_2 w3_a_heat v7 = some o3 → ∀ (H : Heap) (locs : List Loc) (ls : Array Slot), RS G K I J X (ova A [((o + 1), a_fuel), ((o + 3), w3_a_heat), ((o + 4), a_burns)]) B Q H → va_S (gA G) s.heap H locs → lv_has ls 4 [(0, .ref o), (1, .int w1_1), (2, .int w3_2)] → W p l e ({ frames := 3, cells := 0, slots := 0, locals := 68 } : Room) s m args below meth c H locs 0 0 Z (F0 m 56 ls [.int v7, .ref (o + 3)]) := by
        intro _ hf H locs ls hR hS hl
        unfold f12_warm_j56 at hf
        refine lv_iconst (v := 0) hx hb dX12_warm_56 li_0 ?_
        refine lv_goto (tgt := 99) hx hb dX12_warm_57 (by decide) ?_
        exact hj99 (0 : Int32) hf _ _ _ hR hS (lv_sub hl [0, 1, 2] rfl)
      refine lv_if_ne (tgt := 56) hx hb dX12_warm_44 (by decide) (fun c13 => ?_) (fun c13 => ?_)
      · have hf := ite_f c13 hf
        exact hj56 () hf _ _ _ hR hS (lv_sub hl [1, 2, 3] rfl)
      · have hf := ite_t c13 hf
        refine lv_aload_n hx hb dX12_warm_47 rfl (lv_at hl 1 rfl) ?_
        refine g_getr (b := (o + 1)) hx hb hts hown hG hR gFx_X12_9_9 sh_o.1 ((sh_o.2 0 _ rfl).2) dX12_warm_48 ?_
        refine lv_iload_n hx hb dX12_warm_51 rfl (lv_at hl 0 rfl) ?_
        obtain ⟨c14, hf⟩ := gd_some hf
        obtain ⟨v15, ev15, hf⟩ := lt_some hf
        refine n_iald (x := a_fuel) hx hb hG hR k_a_fuel c14 (ova_get 0 hN_A rfl) ev15 dX12_warm_52 ?_
        refine lv_if_ne (tgt := 60) hx hb dX12_warm_53 (by decide) (fun c16 => ?_) (fun c16 => ?_)
        · have hf := ite_f c16 hf
          refine lv_aload_n hx hb dX12_warm_60 rfl (lv_at hl 1 rfl) ?_
          refine lv_iload_n hx hb dX12_warm_61 rfl (lv_at hl 3 rfl) ?_
          refine lv_iload_n hx hb dX12_warm_62 rfl (lv_at hl 2 rfl) ?_
          refine lv_iconst (v := 1) hx hb dX12_warm_63 li_1 ?_
          obtain ⟨v17, ev17, hf⟩ := lt_some hf
          refine n_iadd hx hb ev17 dX12_warm_64 ?_
          refine lv_iconst (v := 0) hx hb dX12_warm_65 li_0 ?_
          obtain ⟨rr18, hrr18, hf⟩ := bind_s hf
          refine g0_cV (rm := (2, 44)) (As := [.int w3_2, .int v17, .int (0 : Int32)]) (rest := [.int v7, .ref (o + 3)]) ⟨hx, hb, hml, hown, hts⟩ hG hR hS (m12_gives l G K I J X (ova A [((o + 1), a_fuel), ((o + 3), w3_a_heat), ((o + 4), a_burns)]) B Q o y sh_o sh_y x_o_yard w3_2 v17 (0 : Int32) i_y_columns i_y_rows i_y_wind a_fuel a_burns e_i_y_columns e_i_y_rows e_i_y_wind (ova_get 0 hN_A rfl) (ova_get 2 hN_A rfl) rr18 hrr18) (cwV 3 hts gi_X12_56 rfl rfl rfl hd_X12_gives ⟨Nat.le_of_ble_eq_true rfl, Nat.le_of_ble_eq_true rfl⟩) sh_o.1 rfl rfl hl.1 (Nat.le_of_ble_eq_true rfl) dX12_warm_66 ⟨Nat.le_refl _, Nat.le_refl _⟩ rfl (fun H locs hR hS => ?_)
          refine lv_aload_n hx hb dX12_warm_69 rfl (lv_at hl 1 rfl) ?_
          refine lv_iload_n hx hb dX12_warm_70 rfl (lv_at hl 3 rfl) ?_
          refine lv_iconst (v := 1) hx hb dX12_warm_71 li_1 ?_
          obtain ⟨v19, ev19, hf⟩ := lt_some hf
          refine n_isub hx hb ev19 dX12_warm_72 ?_
          refine lv_iload_n hx hb dX12_warm_73 rfl (lv_at hl 2 rfl) ?_
          refine lv_iconst (v := 1) hx hb dX12_warm_74 li_1 ?_
          obtain ⟨rr20, hrr20, hf⟩ := bind_s hf
          refine g0_cV (rm := (2, 44)) (As := [.int v19, .int w1_1, .int (1 : Int32)]) (rest := [.int rr18, .int v7, .ref (o + 3)]) ⟨hx, hb, hml, hown, hts⟩ hG hR hS (m12_gives l G K I J X (ova A [((o + 1), a_fuel), ((o + 3), w3_a_heat), ((o + 4), a_burns)]) B Q o y sh_o sh_y x_o_yard v19 w1_1 (1 : Int32) i_y_columns i_y_rows i_y_wind a_fuel a_burns e_i_y_columns e_i_y_rows e_i_y_wind (ova_get 0 hN_A rfl) (ova_get 2 hN_A rfl) rr20 hrr20) (cwV 3 hts gi_X12_56 rfl rfl rfl hd_X12_gives ⟨Nat.le_of_ble_eq_true rfl, Nat.le_of_ble_eq_true rfl⟩) sh_o.1 rfl rfl hl.1 (Nat.le_of_ble_eq_true rfl) dX12_warm_75 ⟨Nat.le_refl _, Nat.le_refl _⟩ rfl (fun H locs hR hS => ?_)
          obtain ⟨v21, ev21, hf⟩ := lt_some hf
          refine n_iadd hx hb ev21 dX12_warm_78 ?_
          refine lv_aload_n hx hb dX12_warm_79 rfl (lv_at hl 1 rfl) ?_
          refine lv_iload_n hx hb dX12_warm_80 rfl (lv_at hl 3 rfl) ?_
          refine lv_iload_n hx hb dX12_warm_81 rfl (lv_at hl 2 rfl) ?_
          refine lv_iconst (v := 1) hx hb dX12_warm_82 li_1 ?_
          obtain ⟨v22, ev22, hf⟩ := lt_some hf
          refine n_isub hx hb ev22 dX12_warm_83 ?_
          refine lv_iconst (v := 2) hx hb dX12_warm_84 li_2 ?_
          obtain ⟨rr23, hrr23, hf⟩ := bind_s hf
          refine g0_cV (rm := (2, 44)) (As := [.int w3_2, .int v22, .int (2 : Int32)]) (rest := [.int v21, .int v7, .ref (o + 3)]) ⟨hx, hb, hml, hown, hts⟩ hG hR hS (m12_gives l G K I J X (ova A [((o + 1), a_fuel), ((o + 3), w3_a_heat), ((o + 4), a_burns)]) B Q o y sh_o sh_y x_o_yard w3_2 v22 (2 : Int32) i_y_columns i_y_rows i_y_wind a_fuel a_burns e_i_y_columns e_i_y_rows e_i_y_wind (ova_get 0 hN_A rfl) (ova_get 2 hN_A rfl) rr23 hrr23) (cwV 3 hts gi_X12_56 rfl rfl rfl hd_X12_gives ⟨Nat.le_of_ble_eq_true rfl, Nat.le_of_ble_eq_true rfl⟩) sh_o.1 rfl rfl hl.1 (Nat.le_of_ble_eq_true rfl) dX12_warm_85 ⟨Nat.le_refl _, Nat.le_refl _⟩ rfl (fun H locs hR hS => ?_)
          obtain ⟨v24, ev24, hf⟩ := lt_some hf
          refine n_iadd hx hb ev24 dX12_warm_88 ?_
          refine lv_aload_n hx hb dX12_warm_89 rfl (lv_at hl 1 rfl) ?_
          refine lv_iload_n hx hb dX12_warm_90 rfl (lv_at hl 3 rfl) ?_
          refine lv_iconst (v := 1) hx hb dX12_warm_91 li_1 ?_
          obtain ⟨v25, ev25, hf⟩ := lt_some hf
          refine n_iadd hx hb ev25 dX12_warm_92 ?_
          refine lv_iload_n hx hb dX12_warm_93 rfl (lv_at hl 2 rfl) ?_
          refine lv_iconst (v := 3) hx hb dX12_warm_94 li_3 ?_
          obtain ⟨rr26, hrr26, hf⟩ := bind_s hf
          refine g0_cV (rm := (2, 44)) (As := [.int v25, .int w1_1, .int (3 : Int32)]) (rest := [.int v24, .int v7, .ref (o + 3)]) ⟨hx, hb, hml, hown, hts⟩ hG hR hS (m12_gives l G K I J X (ova A [((o + 1), a_fuel), ((o + 3), w3_a_heat), ((o + 4), a_burns)]) B Q o y sh_o sh_y x_o_yard v25 w1_1 (3 : Int32) i_y_columns i_y_rows i_y_wind a_fuel a_burns e_i_y_columns e_i_y_rows e_i_y_wind (ova_get 0 hN_A rfl) (ova_get 2 hN_A rfl) rr26 hrr26) (cwV 3 hts gi_X12_56 rfl rfl rfl hd_X12_gives ⟨Nat.le_of_ble_eq_true rfl, Nat.le_of_ble_eq_true rfl⟩) sh_o.1 rfl rfl hl.1 (Nat.le_of_ble_eq_true rfl) dX12_warm_95 ⟨Nat.le_refl _, Nat.le_refl _⟩ rfl (fun H locs hR hS => ?_)
          obtain ⟨v27, ev27, hf⟩ := lt_some hf
          refine n_iadd hx hb ev27 dX12_warm_98 ?_
          exact hj99 v27 hf _ _ _ hR hS (lv_sub hl [1, 2, 3] rfl)
        · have hf := ite_t c16 hf
          exact hj56 () hf _ _ _ hR hS (lv_sub hl [1, 2, 3] rfl)
noncomputable def f12_hottest_e2_0 (rr1 : (Nat → Int32)) (x2_0 : Int32) : Option (Int32 × (Nat → Int32)) :=
  some (x2_0, rr1)

noncomputable def f12_hottest_e4_0 (w2_2 : Int32) (x4_0 : Int32) : Option ((Int32 × Int32) ⊕ (Int32)) :=
  lt (w2_2 + (1 : Int32)) fun v5 =>
  some (.inl (x4_0, v5))

noncomputable def f12_hottest_j68 (w4_3 : Int32) (j68_1 : Int32) : Option ((Int32 × Int32) ⊕ (Int32)) :=
  lt (w4_3 + (1 : Int32)) fun v11 =>
  some (.inl (j68_1, v11))

noncomputable def f12_hottest_j58 (w2_2 : Int32) (w4_1 : Int32) (w4_3 : Int32) (v10 : Int32) (j58_s0 : Int32) : Option ((Int32 × Int32) ⊕ (Int32)) :=
  if v10 ≤ j58_s0 then
    f12_hottest_j68 w4_3 w4_1
  else
    lt ((8 : Int32) * w2_2) fun v13 =>
    lt (v13 + w4_3) fun v14 =>
    f12_hottest_j68 w4_3 v14

noncomputable def f12_hottest_s4 (i_y_columns : Int32) (rr1 : (Nat → Int32)) (w2_2 : Int32) (w4_1 : Int32) (w4_3 : Int32) : Option ((Int32 × Int32) ⊕ (Int32)) :=
  if i_y_columns ≤ w4_3 then
    some (.inr w4_1)
  else
    lt ((8 : Int32) * w2_2) fun v7 =>
    lt (v7 + w4_3) fun v8 =>
    gd (inb v8 64) <|
    lt (rr1 v8.toNatClampNeg) fun v10 =>
    if w4_1 = (-1 : Int32) then
      f12_hottest_j58 w2_2 w4_1 w4_3 v10 (0 : Int32)
    else
      gd (inb w4_1 64) <|
      lt (rr1 w4_1.toNatClampNeg) fun v17 =>
      f12_hottest_j58 w2_2 w4_1 w4_3 v10 v17

noncomputable def f12_hottest_s2 (i_y_columns : Int32) (i_y_rows : Int32) (rr1 : (Nat → Int32)) (w2_1 : Int32) (w2_2 : Int32) : Option ((Int32 × Int32) ⊕ (Int32)) :=
  if i_y_rows ≤ w2_2 then
    some (.inr w2_1)
  else
    (whl (fun (s4 : Int32 × Int32) => f12_hottest_s4 i_y_columns rr1 w2_2 s4.1 s4.2) FU (w2_1, (0 : Int32))).bind fun rl4 =>
    f12_hottest_e4_0 w2_2 rl4

noncomputable def f12_hottest (i_y_columns : Int32) (i_y_rows : Int32) (i_y_wind : Int32) (a_fuel : Nat → Int32) (a_heat : Nat → Int32) (a_burns : Nat → Int32) : Option (Int32 × (Nat → Int32)) :=
  (f12_warm i_y_columns i_y_rows i_y_wind a_fuel a_heat a_burns).bind fun rr1 =>
  (whl (fun (s2 : Int32 × Int32) => f12_hottest_s2 i_y_columns i_y_rows rr1 s2.1 s2.2) FU ((-1 : Int32), (0 : Int32))).bind fun rl2 =>
  f12_hottest_e2_0 rr1 rl2
set_option maxHeartbeats 4000000 in
theorem m12_hottest (l : Launch) (G : gG) (K : gK) (I : gI) (J : gJ) (X : gX) (A : gI) (B : gJ) (Q : gX) (o : Nat) (y : Nat) (sh_o : Sh K X o 9 rows9) (sh_y : Sh K X y 3 rows3) (x_o_yard : X 904 o = some y)  (i_y_columns : Int32) (i_y_rows : Int32) (i_y_wind : Int32) (a_fuel : Nat → Int32) (a_heat : Nat → Int32) (a_burns : Nat → Int32) (e_i_y_columns : I 304 y = i_y_columns) (e_i_y_rows : I 305 y = i_y_rows) (e_i_y_wind : I 314 y = i_y_wind) (e_a_fuel : A (o + 1) = a_fuel) (e_a_heat : A (o + 3) = a_heat) (e_a_burns : A (o + 4) = a_burns) (out : Int32 × (Nat → Int32)) (hf : f12_hottest i_y_columns i_y_rows i_y_wind a_fuel a_heat a_burns = some out) : GMet l yX12_hottest cX12_hottest 4 (some .int) (4) (91) G [.ref o] K I J X A B Q (some (.int out.1)) K I J X (ova A [((o + 1), a_fuel), ((o + 3), out.2), ((o + 4), a_burns)]) B Q 0 0 := by
  refine GMet.of (y := yX12_hottest) rfl (Nat.le_of_ble_eq_true rfl) rfl ?_
  intro p e s m below meth c ls hx hb hr hml hlocks hts hown hname hG hR hl
  have hown : s.vm.findClass RX12 = some m.cls := hown
  have k_a_fuel : K (o + 1) = some (.inr (0, 64)) := (sh_o.2 0 _ rfl).1
  have k_a_heat : K (o + 3) = some (.inr (0, 64)) := (sh_o.2 2 _ rfl).1
  have k_a_burns : K (o + 4) = some (.inr (1, 64)) := (sh_o.2 3 _ rfl).1
  have hN_A : nda [(o + 1), (o + 3), (o + 4)] := nd_off o [1, 3, 4] rfl
  have hR : RS G K I J X (ova A [((o + 1), a_fuel), ((o + 3), a_heat), ((o + 4), a_burns)]) B Q s.heap := hR.to rfl rfl rfl (Eq.symm (ova_sc e_a_fuel (ova_sc e_a_heat (ova_sc e_a_burns rfl)))) rfl rfl
  have hS : va_S (gA G) s.heap s.heap [] := va_S.rf
  have hend : ∀ (pc : Nat) (H : Heap) (locs : List Loc) (ls : Array Slot), decode cX12_hottest pc = .ok (.ireturn, 1) → RS G K I J X (ova A [((o + 1), a_fuel), ((o + 3), out.2), ((o + 4), a_burns)]) B Q H → va_S (gA G) s.heap H locs → W p l e ({ frames := 4, cells := 0, slots := 0, locals := 91 } : Room) s m ([.ref o] : List Value).toArray below meth c H locs 0 0 (MQ below (gQ G (some (.int out.1)) K I J X (ova A [((o + 1), a_fuel), ((o + 3), out.2), ((o + 4), a_burns)]) B Q) ([.ref o] : List Value).toArray s 0 0 (gA G)) (F0 m pc ls [.int out.1]) := fun pc H locs ls hd hR hS => g_iret hx hb hr hlocks hG hR hS rfl hd
  generalize MQ below (gQ G (some (.int out.1)) K I J X (ova A [((o + 1), a_fuel), ((o + 3), out.2), ((o + 4), a_burns)]) B Q) ([.ref o] : List Value).toArray s 0 0 (gA G) = Z at hend ⊢
  generalize ([.ref o] : List Value).toArray = args at hts hend ⊢
  unfold f12_hottest at hf
  refine lv_aload_n hx hb dX12_hottest_0 rfl (lv_at hl 0 rfl) ?_
  obtain ⟨rr1, hrr1, hf⟩ := bind_s hf
  refine g0_cVv (rm := (3, 68)) (As := []) (rest := []) ⟨hx, hb, hml, hown, hts⟩ hG hR hS (m12_warm l G K I J X (ova A [((o + 1), a_fuel), ((o + 3), a_heat), ((o + 4), a_burns)]) B Q o y sh_o sh_y x_o_yard i_y_columns i_y_rows i_y_wind a_fuel a_heat a_burns e_i_y_columns e_i_y_rows e_i_y_wind (ova_get 0 hN_A rfl) (ova_get 1 hN_A rfl) (ova_get 2 hN_A rfl) rr1 hrr1) (cwV 0 hts gi_X12_60 rfl rfl rfl hd_X12_warm ⟨Nat.le_of_ble_eq_true rfl, Nat.le_of_ble_eq_true rfl⟩) sh_o.1 rfl rfl hl.1 (Nat.le_of_ble_eq_true rfl) dX12_hottest_1 ⟨Nat.le_refl _, Nat.le_refl _⟩ rfl (fun H locs hR hS => ?_)
  have hR : RS G K I J X (ova A [((o + 1), a_fuel), ((o + 3), rr1), ((o + 4), a_burns)]) B Q H := hR.to rfl rfl rfl (ova_merge (l := [((o + 1), a_fuel), ((o + 3), a_heat), ((o + 4), a_burns)]) hN_A [0, 1, 2] [((o + 1), a_fuel), ((o + 3), rr1), ((o + 4), a_burns)] rfl rfl) rfl rfl
  refine lv_iconst (v := -1) hx hb dX12_hottest_4 li_m1 ?_
  refine lv_istore_n (lv' := [(1, .int (-1 : Int32)), (0, .ref o)]) hx hb dX12_hottest_5 rfl hl (by decide) rfl (fun ls hl => ?_)
  refine lv_iconst (v := 0) hx hb dX12_hottest_6 li_0 ?_
  refine lv_istore_n (lv' := [(2, .int (0 : Int32)), (1, .int (-1 : Int32)), (0, .ref o)]) hx hb dX12_hottest_7 rfl hl (by decide) rfl (fun ls hl => ?_)
  obtain ⟨rl2, hw2, hfo2⟩ := bind_s hf
  have hx2_0 : ∀ (x2_0 : Int32), f12_hottest_e2_0 rr1 x2_0 = some out → ∀ (H : Heap) (locs : List Loc) (ls : Array Slot), RS G K I J X (ova A [((o + 1), a_fuel), ((o + 3), rr1), ((o + 4), a_burns)]) B Q H → va_S (gA G) s.heap H locs → lv_has ls 4 [(0, .ref o), (1, .int x2_0)] → W p l e ({ frames := 4, cells := 0, slots := 0, locals := 91 } : Room) s m args below meth c H locs 0 0 Z (F0 m 80 ls []) := by
    intro x2_0 hf H locs ls hR hS hl
    unfold f12_hottest_e2_0 at hf
    refine lv_iload_n hx hb dX12_hottest_80 rfl (lv_at hl 1 rfl) ?_
    obtain rfl := some_i hf
    exact hend _ _ _ _ dX12_hottest_81 hR hS
  refine whl_walk (P := fun (s2 : Int32 × Int32) => ∀ (H : Heap) (locs : List Loc) (ls : Array Slot), RS G K I J X (ova A [((o + 1), a_fuel), ((o + 3), rr1), ((o + 4), a_burns)]) B Q H → va_S (gA G) s.heap H locs → lv_has ls 4 [(0, .ref o), (1, .int s2.1), (2, .int s2.2)] → W p l e ({ frames := 4, cells := 0, slots := 0, locals := 91 } : Room) s m args below meth c H locs 0 0 Z (F0 m 8 ls [])) (r := rl2) ?_ FU _ hw2 _ _ _ hR hS (lv_sub hl [2, 1, 0] rfl)
  clear hR hS hl hf
  intro s2 o2 hf hk2 H locs ls hR hS hl
  obtain ⟨w2_1, w2_2⟩ := s2
  have hf : f12_hottest_s2 i_y_columns i_y_rows rr1 w2_1 w2_2 = some o2 := hf
  have hR : RS G K I J X (ova A [((o + 1), a_fuel), ((o + 3), rr1), ((o + 4), a_burns)]) B Q H := hR
  have hl : lv_has ls 4 [(0, .ref o), (1, .int w2_1), (2, .int w2_2)] := hl
  unfold f12_hottest_s2 at hf
  refine lv_iload_n hx hb dX12_hottest_8 rfl (lv_at hl 2 rfl) ?_
  refine lv_aload_n hx hb dX12_hottest_9 rfl (lv_at hl 0 rfl) ?_
  refine g_getr (b := y) hx hb hts hown hG hR gFx_X12_25_9 sh_o.1 x_o_yard dX12_hottest_10 ?_
  refine n_geti (v := i_y_rows) hx hb hts hown hG hR gFi_X12_50_3 sh_y.1 e_i_y_rows dX12_hottest_13 ?_
  refine lv_icmp_ge (tgt := 80) hx hb dX12_hottest_16 (by decide) (fun c3 => ?_) (fun c3 => ?_)
  · have hf := ite_t c3 hf
    obtain rfl := some_i hf
    replace hk2 : _ = rl2 := hk2
    subst hk2
    exact hx2_0 w2_1 hfo2 _ _ _ hR hS (lv_sub hl [0, 1] rfl)
  · have hf := ite_f c3 hf
    refine lv_iconst (v := 0) hx hb dX12_hottest_19 li_0 ?_
    refine lv_istore_n (lv' := [(3, .int (0 : Int32)), (0, .ref o), (1, .int w2_1), (2, .int w2_2)]) hx hb dX12_hottest_20 rfl hl (by decide) rfl (fun ls hl => ?_)
    obtain ⟨rl4, hw4, hfo4⟩ := bind_s hf
    have hx4_0 : ∀ (x4_0 : Int32), f12_hottest_e4_0 w2_2 x4_0 = some o2 → ∀ (H : Heap) (locs : List Loc) (ls : Array Slot), RS G K I J X (ova A [((o + 1), a_fuel), ((o + 3), rr1), ((o + 4), a_burns)]) B Q H → va_S (gA G) s.heap H locs → lv_has ls 4 [(0, .ref o), (1, .int x4_0), (2, .int w2_2)] → W p l e ({ frames := 4, cells := 0, slots := 0, locals := 91 } : Room) s m args below meth c H locs 0 0 Z (F0 m 74 ls []) := by
      intro x4_0 hf H locs ls hR hS hl
      unfold f12_hottest_e4_0 at hf
      obtain ⟨v5, ev5, hf⟩ := lt_some hf
      refine lv_iinc (k := 2) (v := v5) (lv' := [(2, .int v5), (0, .ref o), (1, .int x4_0)]) hx hb dX12_hottest_74 hl rfl (by rw [ev5]; rfl) (by decide) rfl (fun ls hl => ?_)
      refine lv_goto (tgt := 8) hx hb dX12_hottest_77 (by decide) ?_
      obtain rfl := some_i hf
      exact hk2 _ _ _ hR hS (lv_sub hl [1, 2, 0] rfl)
    refine whl_walk (P := fun (s4 : Int32 × Int32) => ∀ (H : Heap) (locs : List Loc) (ls : Array Slot), RS G K I J X (ova A [((o + 1), a_fuel), ((o + 3), rr1), ((o + 4), a_burns)]) B Q H → va_S (gA G) s.heap H locs → lv_has ls 4 [(0, .ref o), (1, .int s4.1), (2, .int w2_2), (3, .int s4.2)] → W p l e ({ frames := 4, cells := 0, slots := 0, locals := 91 } : Room) s m args below meth c H locs 0 0 Z (F0 m 21 ls [])) (r := rl4) ?_ FU _ hw4 _ _ _ hR hS (lv_sub hl [1, 2, 3, 0] rfl)
    clear hR hS hl hf
    intro s4 o4 hf hk4 H locs ls hR hS hl
    obtain ⟨w4_1, w4_3⟩ := s4
    have hf : f12_hottest_s4 i_y_columns rr1 w2_2 w4_1 w4_3 = some o4 := hf
    have hR : RS G K I J X (ova A [((o + 1), a_fuel), ((o + 3), rr1), ((o + 4), a_burns)]) B Q H := hR
    have hl : lv_has ls 4 [(0, .ref o), (1, .int w4_1), (2, .int w2_2), (3, .int w4_3)] := hl
    unfold f12_hottest_s4 at hf
    refine lv_iload_n hx hb dX12_hottest_21 rfl (lv_at hl 3 rfl) ?_
    refine lv_aload_n hx hb dX12_hottest_22 rfl (lv_at hl 0 rfl) ?_
    refine g_getr (b := y) hx hb hts hown hG hR gFx_X12_25_9 sh_o.1 x_o_yard dX12_hottest_23 ?_
    refine n_geti (v := i_y_columns) hx hb hts hown hG hR gFi_X12_53_3 sh_y.1 e_i_y_columns dX12_hottest_26 ?_
    refine lv_icmp_ge (tgt := 74) hx hb dX12_hottest_29 (by decide) (fun c6 => ?_) (fun c6 => ?_)
    · have hf := ite_t c6 hf
      obtain rfl := some_i hf
      replace hk4 : _ = rl4 := hk4
      subst hk4
      exact hx4_0 w4_1 hfo4 _ _ _ hR hS (lv_sub hl [0, 1, 2] rfl)
    · have hf := ite_f c6 hf
      refine lv_aload_n hx hb dX12_hottest_32 rfl (lv_at hl 0 rfl) ?_
      refine g_getr (b := (o + 3)) hx hb hts hown hG hR gFx_X12_18_9 sh_o.1 ((sh_o.2 2 _ rfl).2) dX12_hottest_33 ?_
      refine lv_bipush (v := 8) hx hb dX12_hottest_36 lb_8 ?_
      refine lv_iload_n hx hb dX12_hottest_38 rfl (lv_at hl 2 rfl) ?_
      obtain ⟨v7, ev7, hf⟩ := lt_some hf
      refine n_imul hx hb ev7 dX12_hottest_39 ?_
      refine lv_iload_n hx hb dX12_hottest_40 rfl (lv_at hl 3 rfl) ?_
      obtain ⟨v8, ev8, hf⟩ := lt_some hf
      refine n_iadd hx hb ev8 dX12_hottest_41 ?_
      obtain ⟨c9, hf⟩ := gd_some hf
      obtain ⟨v10, ev10, hf⟩ := lt_some hf
      refine n_iald (x := rr1) hx hb hG hR k_a_heat c9 (ova_get 1 hN_A rfl) ev10 dX12_hottest_42 ?_
      refine lv_iload_n hx hb dX12_hottest_43 rfl (lv_at hl 1 rfl) ?_
      refine lv_iconst (v := -1) hx hb dX12_hottest_44 li_m1 ?_
      have hj58 : ∀ (j58_s0 : Int32), f12_hottest_j58 w2_2 w4_1 w4_3 v10 j58_s0 = some o4 → ∀ (H : Heap) (locs : List Loc) (ls : Array Slot), RS G K I J X (ova A [((o + 1), a_fuel), ((o + 3), rr1), ((o + 4), a_burns)]) B Q H → va_S (gA G) s.heap H locs → lv_has ls 4 [(0, .ref o), (1, .int w4_1), (2, .int w2_2), (3, .int w4_3)] → W p l e ({ frames := 4, cells := 0, slots := 0, locals := 91 } : Room) s m args below meth c H locs 0 0 Z (F0 m 58 ls [.int j58_s0, .int v10]) := by
        intro j58_s0 hf H locs ls hR hS hl
        unfold f12_hottest_j58 at hf
        have hj68 : ∀ (j68_1 : Int32), f12_hottest_j68 w4_3 j68_1 = some o4 → ∀ (H : Heap) (locs : List Loc) (ls : Array Slot), RS G K I J X (ova A [((o + 1), a_fuel), ((o + 3), rr1), ((o + 4), a_burns)]) B Q H → va_S (gA G) s.heap H locs → lv_has ls 4 [(0, .ref o), (1, .int j68_1), (2, .int w2_2), (3, .int w4_3)] → W p l e ({ frames := 4, cells := 0, slots := 0, locals := 91 } : Room) s m args below meth c H locs 0 0 Z (F0 m 68 ls []) := by
          intro j68_1 hf H locs ls hR hS hl
          unfold f12_hottest_j68 at hf
          obtain ⟨v11, ev11, hf⟩ := lt_some hf
          refine lv_iinc (k := 3) (v := v11) (lv' := [(3, .int v11), (0, .ref o), (1, .int j68_1), (2, .int w2_2)]) hx hb dX12_hottest_68 hl rfl (by rw [ev11]; rfl) (by decide) rfl (fun ls hl => ?_)
          refine lv_goto (tgt := 21) hx hb dX12_hottest_71 (by decide) ?_
          obtain rfl := some_i hf
          exact hk4 _ _ _ hR hS (lv_sub hl [1, 2, 3, 0] rfl)
        refine lv_icmp_le (tgt := 68) hx hb dX12_hottest_58 (by decide) (fun c12 => ?_) (fun c12 => ?_)
        · have hf := ite_t c12 hf
          exact hj68 w4_1 hf _ _ _ hR hS (lv_sub hl [0, 1, 2, 3] rfl)
        · have hf := ite_f c12 hf
          refine lv_bipush (v := 8) hx hb dX12_hottest_61 lb_8 ?_
          refine lv_iload_n hx hb dX12_hottest_63 rfl (lv_at hl 2 rfl) ?_
          obtain ⟨v13, ev13, hf⟩ := lt_some hf
          refine n_imul hx hb ev13 dX12_hottest_64 ?_
          refine lv_iload_n hx hb dX12_hottest_65 rfl (lv_at hl 3 rfl) ?_
          obtain ⟨v14, ev14, hf⟩ := lt_some hf
          refine n_iadd hx hb ev14 dX12_hottest_66 ?_
          refine lv_istore_n (lv' := [(1, .int v14), (0, .ref o), (2, .int w2_2), (3, .int w4_3)]) hx hb dX12_hottest_67 rfl hl (by decide) rfl (fun ls hl => ?_)
          exact hj68 v14 hf _ _ _ hR hS (lv_sub hl [1, 0, 2, 3] rfl)
      refine lv_icmp_ne (tgt := 52) hx hb dX12_hottest_45 (by decide) (fun c15 => ?_) (fun c15 => ?_)
      · have hf := ite_f c15 hf
        refine lv_aload_n hx hb dX12_hottest_52 rfl (lv_at hl 0 rfl) ?_
        refine g_getr (b := (o + 3)) hx hb hts hown hG hR gFx_X12_18_9 sh_o.1 ((sh_o.2 2 _ rfl).2) dX12_hottest_53 ?_
        refine lv_iload_n hx hb dX12_hottest_56 rfl (lv_at hl 1 rfl) ?_
        obtain ⟨c16, hf⟩ := gd_some hf
        obtain ⟨v17, ev17, hf⟩ := lt_some hf
        refine n_iald (x := rr1) hx hb hG hR k_a_heat c16 (ova_get 1 hN_A rfl) ev17 dX12_hottest_57 ?_
        exact hj58 v17 hf _ _ _ hR hS (lv_sub hl [0, 1, 2, 3] rfl)
      · have hf := ite_t c15 hf
        refine lv_iconst (v := 0) hx hb dX12_hottest_48 li_0 ?_
        refine lv_goto (tgt := 58) hx hb dX12_hottest_49 (by decide) ?_
        exact hj58 (0 : Int32) hf _ _ _ hR hS (lv_sub hl [0, 1, 2, 3] rfl)
noncomputable def f12_minute_e3_0 (x3_0 : Int32 × (Nat → Int32) × (Nat → Int32) × (Nat → Int32) × (Nat → Int32)) : Option (Int32 × (Nat → Int32) × (Nat → Int32) × (Nat → Int32) × (Nat → Int32)) :=
  some x3_0

noncomputable def f12_minute_e5_0 (w3_3 : Int32) (x5_0 : (Nat → Int32)) : Option ((Int32 × (Nat → Int32)) ⊕ (Int32 × (Nat → Int32) × (Nat → Int32) × (Nat → Int32) × (Nat → Int32))) :=
  lt (w3_3 + (1 : Int32)) fun v6 =>
  some (.inl (v6, x5_0))

noncomputable def f12_minute_j191 (w5_4 : Int32) (j191_a_burns : Nat → Int32) : Option ((Int32 × (Nat → Int32)) ⊕ ((Nat → Int32))) :=
  lt (w5_4 + (1 : Int32)) fun v19 =>
  some (.inl (v19, j191_a_burns))

noncomputable def f12_minute_s5 (i_y_columns : Int32) (j49_a_wet : Nat → Int32) (rr1 : (Nat → Int32)) (w3_3 : Int32) (w5_4 : Int32) (w5_a_burns : Nat → Int32) : Option ((Int32 × (Nat → Int32)) ⊕ ((Nat → Int32))) :=
  if i_y_columns ≤ w5_4 then
    some (.inr w5_a_burns)
  else
    lt ((8 : Int32) * w3_3) fun v8 =>
    lt (v8 + w5_4) fun v9 =>
    gd (inb v9 64) <|
    lt (rr1 v9.toNatClampNeg) fun v11 =>
    lt ((8 : Int32) * w3_3) fun v12 =>
    lt (v12 + w5_4) fun v13 =>
    gd (inb v13 64) <|
    lt (j49_a_wet v13.toNatClampNeg) fun v15 =>
    gd (¬ (2 : Int32) = 0) <|
    lt (v15 / (2 : Int32)) fun v16 =>
    lt ((5 : Int32) + v16) fun v18 =>
    if v11 < v18 then
      f12_minute_j191 w5_4 w5_a_burns
    else
      lt ((8 : Int32) * w3_3) fun v21 =>
      lt (v21 + w5_4) fun v22 =>
      gd (inb v22 64) <|
      lt (upd w5_a_burns v22.toNatClampNeg (vp_nar .boolean (1 : Int32))) fun u24 =>
      f12_minute_j191 w5_4 u24

noncomputable def f12_minute_s3 (i_y_columns : Int32) (i_y_rows : Int32) (j49_a_wet : Nat → Int32) (rr1 : (Nat → Int32)) (x2_0 : Int32 × (Nat → Int32) × (Nat → Int32)) (w3_3 : Int32) (w3_a_burns : Nat → Int32) : Option ((Int32 × (Nat → Int32)) ⊕ (Int32 × (Nat → Int32) × (Nat → Int32) × (Nat → Int32) × (Nat → Int32))) :=
  if i_y_rows ≤ w3_3 then
    some (.inr (x2_0.1, x2_0.2.1, j49_a_wet, rr1, w3_a_burns))
  else
    (whl (fun (s5 : Int32 × (Nat → Int32)) => f12_minute_s5 i_y_columns j49_a_wet rr1 w3_3 s5.1 s5.2) FU ((0 : Int32), w3_a_burns)).bind fun rl5 =>
    f12_minute_e5_0 w3_3 rl5

noncomputable def f12_minute_e2_0 (i_y_columns : Int32) (i_y_rows : Int32) (j49_a_wet : Nat → Int32) (rr1 : (Nat → Int32)) (x2_0 : Int32 × (Nat → Int32) × (Nat → Int32)) : Option (Int32 × (Nat → Int32) × (Nat → Int32) × (Nat → Int32) × (Nat → Int32)) :=
  (whl (fun (s3 : Int32 × (Nat → Int32)) => f12_minute_s3 i_y_columns i_y_rows j49_a_wet rr1 x2_0 s3.1 s3.2) FU ((0 : Int32), x2_0.2.2)).bind fun rl3 =>
  f12_minute_e3_0 rl3

noncomputable def f12_minute_j113 (w2_3 : Int32) (j113_i_lost : Int32) (j113_a_fuel : Nat → Int32) (j113_a_burns : Nat → Int32) : Option ((Int32 × Int32 × (Nat → Int32) × (Nat → Int32)) ⊕ (Int32 × (Nat → Int32) × (Nat → Int32))) :=
  lt (w2_3 + (1 : Int32)) fun v28 =>
  some (.inl (v28, j113_i_lost, j113_a_fuel, j113_a_burns))

noncomputable def f12_minute_j112 (w2_3 : Int32) (w2_a_burns : Nat → Int32) (u34 : Nat → Int32) (v35 : Int32) (j112_s0 : Int32) : Option ((Int32 × Int32 × (Nat → Int32) × (Nat → Int32)) ⊕ (Int32 × (Nat → Int32) × (Nat → Int32))) :=
  gd (inb w2_3 64) <|
  lt (upd w2_a_burns w2_3.toNatClampNeg (vp_nar .boolean j112_s0)) fun u39 =>
  f12_minute_j113 w2_3 v35 u34 u39

noncomputable def f12_minute_s2 (w2_3 : Int32) (w2_i_lost : Int32) (w2_a_fuel : Nat → Int32) (w2_a_burns : Nat → Int32) : Option ((Int32 × Int32 × (Nat → Int32) × (Nat → Int32)) ⊕ (Int32 × (Nat → Int32) × (Nat → Int32))) :=
  if (64 : Int32) ≤ w2_3 then
    some (.inr (w2_i_lost, w2_a_fuel, w2_a_burns))
  else
    gd (inb w2_3 64) <|
    lt (w2_a_burns w2_3.toNatClampNeg) fun v27 =>
    if v27 = 0 then
      f12_minute_j113 w2_3 w2_i_lost w2_a_fuel w2_a_burns
    else
      gd (inb w2_3 64) <|
      lt (w2_a_fuel w2_3.toNatClampNeg) fun v31 =>
      lt (v31 - (1 : Int32)) fun v32 =>
      gd (inb w2_3 64) <|
      lt (upd w2_a_fuel w2_3.toNatClampNeg v32) fun u34 =>
      lt (w2_i_lost + (1 : Int32)) fun v35 =>
      gd (inb w2_3 64) <|
      lt (u34 w2_3.toNatClampNeg) fun v37 =>
      if v37 ≤ 0 then
        f12_minute_j112 w2_3 w2_a_burns u34 v35 (0 : Int32)
      else
        f12_minute_j112 w2_3 w2_a_burns u34 v35 (1 : Int32)

noncomputable def f12_minute_j49 (i_y_columns : Int32) (i_y_rows : Int32) (i_y_wind : Int32) (i_lost : Int32) (a_fuel : Nat → Int32) (a_heat : Nat → Int32) (j49_a_wet : Nat → Int32) (j49_a_burns : Nat → Int32) : Option (Int32 × (Nat → Int32) × (Nat → Int32) × (Nat → Int32) × (Nat → Int32)) :=
  (f12_warm i_y_columns i_y_rows i_y_wind a_fuel a_heat j49_a_burns).bind fun rr1 =>
  (whl (fun (s2 : Int32 × Int32 × (Nat → Int32) × (Nat → Int32)) => f12_minute_s2 s2.1 s2.2.1 s2.2.2.1 s2.2.2.2) FU ((0 : Int32), i_lost, a_fuel, j49_a_burns)).bind fun rl2 =>
  f12_minute_e2_0 i_y_columns i_y_rows j49_a_wet rr1 rl2

noncomputable def f12_minute (p1 : Int32) (p2 : Int32) (i_y_columns : Int32) (i_y_rows : Int32) (i_y_wind : Int32) (i_lost : Int32) (a_fuel : Nat → Int32) (a_wet : Nat → Int32) (a_heat : Nat → Int32) (a_burns : Nat → Int32) : Option (Int32 × (Nat → Int32) × (Nat → Int32) × (Nat → Int32) × (Nat → Int32)) :=
  if p1 = (-1 : Int32) then
    f12_minute_j49 i_y_columns i_y_rows i_y_wind i_lost a_fuel a_heat a_wet a_burns
  else
    gd (inb p1 64) <|
    lt (a_wet p1.toNatClampNeg) fun v43 =>
    lt (v43 + p2) fun v44 =>
    gd (inb p1 64) <|
    lt (upd a_wet p1.toNatClampNeg v44) fun u46 =>
    gd (inb p1 64) <|
    lt (a_burns p1.toNatClampNeg) fun v48 =>
    if v48 = 0 then
      f12_minute_j49 i_y_columns i_y_rows i_y_wind i_lost a_fuel a_heat u46 a_burns
    else
      gd (inb p1 64) <|
      lt (u46 p1.toNatClampNeg) fun v51 =>
      gd (inb p1 64) <|
      lt (a_fuel p1.toNatClampNeg) fun v53 =>
      lt ((10 : Int32) * v53) fun v54 =>
      if v51 < v54 then
        f12_minute_j49 i_y_columns i_y_rows i_y_wind i_lost a_fuel a_heat u46 a_burns
      else
        gd (inb p1 64) <|
        lt (upd a_burns p1.toNatClampNeg (vp_nar .boolean (0 : Int32))) fun u57 =>
        f12_minute_j49 i_y_columns i_y_rows i_y_wind i_lost a_fuel a_heat u46 u57
set_option maxHeartbeats 4000000 in
theorem m12_minute (l : Launch) (G : gG) (K : gK) (I : gI) (J : gJ) (X : gX) (A : gI) (B : gJ) (Q : gX) (o : Nat) (y : Nat) (sh_o : Sh K X o 9 rows9) (sh_y : Sh K X y 3 rows3) (x_o_yard : X 904 o = some y) (p1 : Int32) (p2 : Int32) (i_y_columns : Int32) (i_y_rows : Int32) (i_y_wind : Int32) (i_lost : Int32) (a_fuel : Nat → Int32) (a_wet : Nat → Int32) (a_heat : Nat → Int32) (a_burns : Nat → Int32) (e_i_y_columns : I 304 y = i_y_columns) (e_i_y_rows : I 305 y = i_y_rows) (e_i_y_wind : I 314 y = i_y_wind) (e_i_lost : I 905 o = i_lost) (e_a_fuel : A (o + 1) = a_fuel) (e_a_wet : A (o + 2) = a_wet) (e_a_heat : A (o + 3) = a_heat) (e_a_burns : A (o + 4) = a_burns) (out : Int32 × (Nat → Int32) × (Nat → Int32) × (Nat → Int32) × (Nat → Int32)) (hf : f12_minute p1 p2 i_y_columns i_y_rows i_y_wind i_lost a_fuel a_wet a_heat a_burns = some out) : GMet l yX12_minute cX12_minute 5 none (4) (91) G [.ref o, .int p1, .int p2] K I J X A B Q none K (ov I [(905, o, out.1)]) J X (ova A [((o + 1), out.2.1), ((o + 2), out.2.2.1), ((o + 3), out.2.2.2.1), ((o + 4), out.2.2.2.2)]) B Q 0 0 := by
  refine GMet.of (y := yX12_minute) rfl (Nat.le_of_ble_eq_true rfl) rfl ?_
  intro p e s m below meth c ls hx hb hr hml hlocks hts hown hname hG hR hl
  have hown : s.vm.findClass RX12 = some m.cls := hown
  have k_a_fuel : K (o + 1) = some (.inr (0, 64)) := (sh_o.2 0 _ rfl).1
  have k_a_wet : K (o + 2) = some (.inr (0, 64)) := (sh_o.2 1 _ rfl).1
  have k_a_heat : K (o + 3) = some (.inr (0, 64)) := (sh_o.2 2 _ rfl).1
  have k_a_burns : K (o + 4) = some (.inr (1, 64)) := (sh_o.2 3 _ rfl).1
  have hN_A : nda [(o + 1), (o + 2), (o + 3), (o + 4)] := nd_off o [1, 2, 3, 4] rfl
  have hR : RS G K (ov I [(905, o, i_lost)]) J X (ova A [((o + 1), a_fuel), ((o + 2), a_wet), ((o + 3), a_heat), ((o + 4), a_burns)]) B Q s.heap := hR.to (Eq.symm (ov_sc e_i_lost rfl)) rfl rfl (Eq.symm (ova_sc e_a_fuel (ova_sc e_a_wet (ova_sc e_a_heat (ova_sc e_a_burns rfl))))) rfl rfl
  have hS : va_S (gA G) s.heap s.heap [] := va_S.rf
  have hend : ∀ (pc : Nat) (H : Heap) (locs : List Loc) (ls : Array Slot), decode cX12_minute pc = .ok (.return_, 1) → RS G K (ov I [(905, o, out.1)]) J X (ova A [((o + 1), out.2.1), ((o + 2), out.2.2.1), ((o + 3), out.2.2.2.1), ((o + 4), out.2.2.2.2)]) B Q H → va_S (gA G) s.heap H locs → W p l e ({ frames := 4, cells := 0, slots := 0, locals := 91 } : Room) s m ([.ref o, .int p1, .int p2] : List Value).toArray below meth c H locs 0 0 (MQ below (gQ G none K (ov I [(905, o, out.1)]) J X (ova A [((o + 1), out.2.1), ((o + 2), out.2.2.1), ((o + 3), out.2.2.2.1), ((o + 4), out.2.2.2.2)]) B Q) ([.ref o, .int p1, .int p2] : List Value).toArray s 0 0 (gA G)) (F0 m pc ls []) := fun pc H locs ls hd hR hS => g_vret hx hb hr hlocks hG hR hS rfl hd
  generalize MQ below (gQ G none K (ov I [(905, o, out.1)]) J X (ova A [((o + 1), out.2.1), ((o + 2), out.2.2.1), ((o + 3), out.2.2.2.1), ((o + 4), out.2.2.2.2)]) B Q) ([.ref o, .int p1, .int p2] : List Value).toArray s 0 0 (gA G) = Z at hend ⊢
  generalize ([.ref o, .int p1, .int p2] : List Value).toArray = args at hts hend ⊢
  unfold f12_minute at hf
  refine lv_iload_n hx hb dX12_minute_0 rfl (lv_at hl 1 rfl) ?_
  refine lv_iconst (v := -1) hx hb dX12_minute_1 li_m1 ?_
  have hj49 : ∀ (j49_a_wet : Nat → Int32) (j49_a_burns : Nat → Int32), f12_minute_j49 i_y_columns i_y_rows i_y_wind i_lost a_fuel a_heat j49_a_wet j49_a_burns = some out → ∀ (H : Heap) (locs : List Loc) (ls : Array Slot), RS G K (ov I [(905, o, i_lost)]) J X (ova A [((o + 1), a_fuel), ((o + 2), j49_a_wet), ((o + 3), a_heat), ((o + 4), j49_a_burns)]) B Q H → va_S (gA G) s.heap H locs → lv_has ls 5 [(0, .ref o)] → W p l e ({ frames := 4, cells := 0, slots := 0, locals := 91 } : Room) s m args below meth c H locs 0 0 Z (F0 m 49 ls []) := by
    intro j49_a_wet j49_a_burns hf H locs ls hR hS hl
    unfold f12_minute_j49 at hf
    refine lv_aload_n hx hb dX12_minute_49 rfl (lv_at hl 0 rfl) ?_
    obtain ⟨rr1, hrr1, hf⟩ := bind_s hf
    refine g0_cVv (rm := (3, 68)) (As := []) (rest := []) ⟨hx, hb, hml, hown, hts⟩ hG hR hS (m12_warm l G K (ov I [(905, o, i_lost)]) J X (ova A [((o + 1), a_fuel), ((o + 2), j49_a_wet), ((o + 3), a_heat), ((o + 4), j49_a_burns)]) B Q o y sh_o sh_y x_o_yard i_y_columns i_y_rows i_y_wind a_fuel a_heat j49_a_burns ((congrFun (ov_no rfl) _).trans e_i_y_columns) ((congrFun (ov_no rfl) _).trans e_i_y_rows) ((congrFun (ov_no rfl) _).trans e_i_y_wind) (ova_get 0 hN_A rfl) (ova_get 2 hN_A rfl) (ova_get 3 hN_A rfl) rr1 hrr1) (cwV 0 hts gi_X12_60 rfl rfl rfl hd_X12_warm ⟨Nat.le_of_ble_eq_true rfl, Nat.le_of_ble_eq_true rfl⟩) sh_o.1 rfl rfl hl.1 (Nat.le_of_ble_eq_true rfl) dX12_minute_50 ⟨Nat.le_refl _, Nat.le_refl _⟩ rfl (fun H locs hR hS => ?_)
    have hR : RS G K (ov I [(905, o, i_lost)]) J X (ova A [((o + 1), a_fuel), ((o + 2), j49_a_wet), ((o + 3), rr1), ((o + 4), j49_a_burns)]) B Q H := hR.to rfl rfl rfl (ova_merge (l := [((o + 1), a_fuel), ((o + 2), j49_a_wet), ((o + 3), a_heat), ((o + 4), j49_a_burns)]) hN_A [0, 2, 3] [((o + 1), a_fuel), ((o + 3), rr1), ((o + 4), j49_a_burns)] rfl rfl) rfl rfl
    refine lv_iconst (v := 0) hx hb dX12_minute_53 li_0 ?_
    refine lv_istore_n (lv' := [(3, .int (0 : Int32)), (0, .ref o)]) hx hb dX12_minute_54 rfl hl (by decide) rfl (fun ls hl => ?_)
    obtain ⟨rl2, hw2, hfo2⟩ := bind_s hf
    have hx2_0 : ∀ (x2_0 : Int32 × (Nat → Int32) × (Nat → Int32)), f12_minute_e2_0 i_y_columns i_y_rows j49_a_wet rr1 x2_0 = some out → ∀ (H : Heap) (locs : List Loc) (ls : Array Slot), RS G K (ov I [(905, o, x2_0.1)]) J X (ova A [((o + 1), x2_0.2.1), ((o + 2), j49_a_wet), ((o + 3), rr1), ((o + 4), x2_0.2.2)]) B Q H → va_S (gA G) s.heap H locs → lv_has ls 5 [(0, .ref o)] → W p l e ({ frames := 4, cells := 0, slots := 0, locals := 91 } : Room) s m args below meth c H locs 0 0 Z (F0 m 119 ls []) := by
      intro x2_0 hf H locs ls hR hS hl
      unfold f12_minute_e2_0 at hf
      refine lv_iconst (v := 0) hx hb dX12_minute_119 li_0 ?_
      refine lv_istore_n (lv' := [(3, .int (0 : Int32)), (0, .ref o)]) hx hb dX12_minute_120 rfl hl (by decide) rfl (fun ls hl => ?_)
      obtain ⟨rl3, hw3, hfo3⟩ := bind_s hf
      have hx3_0 : ∀ (x3_0 : Int32 × (Nat → Int32) × (Nat → Int32) × (Nat → Int32) × (Nat → Int32)), f12_minute_e3_0 x3_0 = some out → ∀ (pc : Nat) (H : Heap) (locs : List Loc) (ls : Array Slot), decode cX12_minute pc = .ok (.return_, 1) → RS G K (ov I [(905, o, x3_0.1)]) J X (ova A [((o + 1), x3_0.2.1), ((o + 2), x3_0.2.2.1), ((o + 3), x3_0.2.2.2.1), ((o + 4), x3_0.2.2.2.2)]) B Q H → va_S (gA G) s.heap H locs → W p l e ({ frames := 4, cells := 0, slots := 0, locals := 91 } : Room) s m args below meth c H locs 0 0 Z (F0 m pc ls []) := by
        intro x3_0 hf pc H locs ls hd hR hS
        unfold f12_minute_e3_0 at hf
        obtain rfl := some_i hf
        exact hend _ _ _ _ hd hR hS
      refine whl_walk (P := fun (s3 : Int32 × (Nat → Int32)) => ∀ (H : Heap) (locs : List Loc) (ls : Array Slot), RS G K (ov I [(905, o, x2_0.1)]) J X (ova A [((o + 1), x2_0.2.1), ((o + 2), j49_a_wet), ((o + 3), rr1), ((o + 4), s3.2)]) B Q H → va_S (gA G) s.heap H locs → lv_has ls 5 [(0, .ref o), (3, .int s3.1)] → W p l e ({ frames := 4, cells := 0, slots := 0, locals := 91 } : Room) s m args below meth c H locs 0 0 Z (F0 m 121 ls [])) (r := rl3) ?_ FU _ hw3 _ _ _ hR hS (lv_sub hl [1, 0] rfl)
      clear hR hS hl hf
      intro s3 o3 hf hk3 H locs ls hR hS hl
      obtain ⟨w3_3, w3_a_burns⟩ := s3
      have hf : f12_minute_s3 i_y_columns i_y_rows j49_a_wet rr1 x2_0 w3_3 w3_a_burns = some o3 := hf
      have hR : RS G K (ov I [(905, o, x2_0.1)]) J X (ova A [((o + 1), x2_0.2.1), ((o + 2), j49_a_wet), ((o + 3), rr1), ((o + 4), w3_a_burns)]) B Q H := hR
      have hl : lv_has ls 5 [(0, .ref o), (3, .int w3_3)] := hl
      unfold f12_minute_s3 at hf
      refine lv_iload_n hx hb dX12_minute_121 rfl (lv_at hl 1 rfl) ?_
      refine lv_aload_n hx hb dX12_minute_122 rfl (lv_at hl 0 rfl) ?_
      refine g_getr (b := y) hx hb hts hown hG hR gFx_X12_25_9 sh_o.1 x_o_yard dX12_minute_123 ?_
      refine n_geti (v := i_y_rows) hx hb hts hown hG hR gFi_X12_50_3 sh_y.1 ((congrFun (ov_no rfl) _).trans e_i_y_rows) dX12_minute_126 ?_
      refine lv_icmp_ge (tgt := 203) hx hb dX12_minute_129 (by decide) (fun c4 => ?_) (fun c4 => ?_)
      · have hf := ite_t c4 hf
        obtain rfl := some_i hf
        replace hk3 : _ = rl3 := hk3
        subst hk3
        exact hx3_0 (x2_0.1, x2_0.2.1, j49_a_wet, rr1, w3_a_burns) hfo3 _ _ _ _ dX12_minute_203 hR hS
      · have hf := ite_f c4 hf
        refine lv_iconst (v := 0) hx hb dX12_minute_132 li_0 ?_
        refine lv_istore (lv' := [(4, .int (0 : Int32)), (0, .ref o), (3, .int w3_3)]) hx hb dX12_minute_133 hl (by decide) rfl (fun ls hl => ?_)
        obtain ⟨rl5, hw5, hfo5⟩ := bind_s hf
        have hx5_0 : ∀ (x5_0 : (Nat → Int32)), f12_minute_e5_0 w3_3 x5_0 = some o3 → ∀ (H : Heap) (locs : List Loc) (ls : Array Slot), RS G K (ov I [(905, o, x2_0.1)]) J X (ova A [((o + 1), x2_0.2.1), ((o + 2), j49_a_wet), ((o + 3), rr1), ((o + 4), x5_0)]) B Q H → va_S (gA G) s.heap H locs → lv_has ls 5 [(0, .ref o), (3, .int w3_3)] → W p l e ({ frames := 4, cells := 0, slots := 0, locals := 91 } : Room) s m args below meth c H locs 0 0 Z (F0 m 197 ls []) := by
          intro x5_0 hf H locs ls hR hS hl
          unfold f12_minute_e5_0 at hf
          obtain ⟨v6, ev6, hf⟩ := lt_some hf
          refine lv_iinc (k := 1) (v := v6) (lv' := [(3, .int v6), (0, .ref o)]) hx hb dX12_minute_197 hl rfl (by rw [ev6]; rfl) (by decide) rfl (fun ls hl => ?_)
          refine lv_goto (tgt := 121) hx hb dX12_minute_200 (by decide) ?_
          obtain rfl := some_i hf
          exact hk3 _ _ _ hR hS (lv_sub hl [1, 0] rfl)
        refine whl_walk (P := fun (s5 : Int32 × (Nat → Int32)) => ∀ (H : Heap) (locs : List Loc) (ls : Array Slot), RS G K (ov I [(905, o, x2_0.1)]) J X (ova A [((o + 1), x2_0.2.1), ((o + 2), j49_a_wet), ((o + 3), rr1), ((o + 4), s5.2)]) B Q H → va_S (gA G) s.heap H locs → lv_has ls 5 [(0, .ref o), (3, .int w3_3), (4, .int s5.1)] → W p l e ({ frames := 4, cells := 0, slots := 0, locals := 91 } : Room) s m args below meth c H locs 0 0 Z (F0 m 135 ls [])) (r := rl5) ?_ FU _ hw5 _ _ _ hR hS (lv_sub hl [1, 2, 0] rfl)
        clear hR hS hl hf
        intro s5 o5 hf hk5 H locs ls hR hS hl
        obtain ⟨w5_4, w5_a_burns⟩ := s5
        have hf : f12_minute_s5 i_y_columns j49_a_wet rr1 w3_3 w5_4 w5_a_burns = some o5 := hf
        have hR : RS G K (ov I [(905, o, x2_0.1)]) J X (ova A [((o + 1), x2_0.2.1), ((o + 2), j49_a_wet), ((o + 3), rr1), ((o + 4), w5_a_burns)]) B Q H := hR
        have hl : lv_has ls 5 [(0, .ref o), (3, .int w3_3), (4, .int w5_4)] := hl
        unfold f12_minute_s5 at hf
        refine lv_iload hx hb dX12_minute_135 (lv_at hl 2 rfl) ?_
        refine lv_aload_n hx hb dX12_minute_137 rfl (lv_at hl 0 rfl) ?_
        refine g_getr (b := y) hx hb hts hown hG hR gFx_X12_25_9 sh_o.1 x_o_yard dX12_minute_138 ?_
        refine n_geti (v := i_y_columns) hx hb hts hown hG hR gFi_X12_53_3 sh_y.1 ((congrFun (ov_no rfl) _).trans e_i_y_columns) dX12_minute_141 ?_
        refine lv_icmp_ge (tgt := 197) hx hb dX12_minute_144 (by decide) (fun c7 => ?_) (fun c7 => ?_)
        · have hf := ite_t c7 hf
          obtain rfl := some_i hf
          replace hk5 : _ = rl5 := hk5
          subst hk5
          exact hx5_0 w5_a_burns hfo5 _ _ _ hR hS (lv_sub hl [0, 1] rfl)
        · have hf := ite_f c7 hf
          refine lv_aload_n hx hb dX12_minute_147 rfl (lv_at hl 0 rfl) ?_
          refine g_getr (b := (o + 3)) hx hb hts hown hG hR gFx_X12_18_9 sh_o.1 ((sh_o.2 2 _ rfl).2) dX12_minute_148 ?_
          refine lv_bipush (v := 8) hx hb dX12_minute_151 lb_8 ?_
          refine lv_iload_n hx hb dX12_minute_153 rfl (lv_at hl 1 rfl) ?_
          obtain ⟨v8, ev8, hf⟩ := lt_some hf
          refine n_imul hx hb ev8 dX12_minute_154 ?_
          refine lv_iload hx hb dX12_minute_155 (lv_at hl 2 rfl) ?_
          obtain ⟨v9, ev9, hf⟩ := lt_some hf
          refine n_iadd hx hb ev9 dX12_minute_157 ?_
          obtain ⟨c10, hf⟩ := gd_some hf
          obtain ⟨v11, ev11, hf⟩ := lt_some hf
          refine n_iald (x := rr1) hx hb hG hR k_a_heat c10 (ova_get 2 hN_A rfl) ev11 dX12_minute_158 ?_
          refine lv_iconst (v := 5) hx hb dX12_minute_159 li_5 ?_
          refine lv_aload_n hx hb dX12_minute_160 rfl (lv_at hl 0 rfl) ?_
          refine g_getr (b := (o + 2)) hx hb hts hown hG hR gFx_X12_15_9 sh_o.1 ((sh_o.2 1 _ rfl).2) dX12_minute_161 ?_
          refine lv_bipush (v := 8) hx hb dX12_minute_164 lb_8 ?_
          refine lv_iload_n hx hb dX12_minute_166 rfl (lv_at hl 1 rfl) ?_
          obtain ⟨v12, ev12, hf⟩ := lt_some hf
          refine n_imul hx hb ev12 dX12_minute_167 ?_
          refine lv_iload hx hb dX12_minute_168 (lv_at hl 2 rfl) ?_
          obtain ⟨v13, ev13, hf⟩ := lt_some hf
          refine n_iadd hx hb ev13 dX12_minute_170 ?_
          obtain ⟨c14, hf⟩ := gd_some hf
          obtain ⟨v15, ev15, hf⟩ := lt_some hf
          refine n_iald (x := j49_a_wet) hx hb hG hR k_a_wet c14 (ova_get 1 hN_A rfl) ev15 dX12_minute_171 ?_
          refine lv_iconst (v := 2) hx hb dX12_minute_172 li_2 ?_
          obtain ⟨c17, hf⟩ := gd_some hf
          obtain ⟨v16, ev16, hf⟩ := lt_some hf
          refine n_idiv hx hb c17 ev16 dX12_minute_173 ?_
          obtain ⟨v18, ev18, hf⟩ := lt_some hf
          refine n_iadd hx hb ev18 dX12_minute_174 ?_
          have hj191 : ∀ (j191_a_burns : Nat → Int32), f12_minute_j191 w5_4 j191_a_burns = some o5 → ∀ (H : Heap) (locs : List Loc) (ls : Array Slot), RS G K (ov I [(905, o, x2_0.1)]) J X (ova A [((o + 1), x2_0.2.1), ((o + 2), j49_a_wet), ((o + 3), rr1), ((o + 4), j191_a_burns)]) B Q H → va_S (gA G) s.heap H locs → lv_has ls 5 [(0, .ref o), (3, .int w3_3), (4, .int w5_4)] → W p l e ({ frames := 4, cells := 0, slots := 0, locals := 91 } : Room) s m args below meth c H locs 0 0 Z (F0 m 191 ls []) := by
            intro j191_a_burns hf H locs ls hR hS hl
            unfold f12_minute_j191 at hf
            obtain ⟨v19, ev19, hf⟩ := lt_some hf
            refine lv_iinc (k := 2) (v := v19) (lv' := [(4, .int v19), (0, .ref o), (3, .int w3_3)]) hx hb dX12_minute_191 hl rfl (by rw [ev19]; rfl) (by decide) rfl (fun ls hl => ?_)
            refine lv_goto (tgt := 135) hx hb dX12_minute_194 (by decide) ?_
            obtain rfl := some_i hf
            exact hk5 _ _ _ hR hS (lv_sub hl [1, 2, 0] rfl)
          refine lv_icmp_lt (tgt := 191) hx hb dX12_minute_175 (by decide) (fun c20 => ?_) (fun c20 => ?_)
          · have hf := ite_t c20 hf
            exact hj191 w5_a_burns hf _ _ _ hR hS (lv_sub hl [0, 1, 2] rfl)
          · have hf := ite_f c20 hf
            refine lv_aload_n hx hb dX12_minute_178 rfl (lv_at hl 0 rfl) ?_
            refine g_getr (b := (o + 4)) hx hb hts hown hG hR gFx_X12_21_9 sh_o.1 ((sh_o.2 3 _ rfl).2) dX12_minute_179 ?_
            refine lv_bipush (v := 8) hx hb dX12_minute_182 lb_8 ?_
            refine lv_iload_n hx hb dX12_minute_184 rfl (lv_at hl 1 rfl) ?_
            obtain ⟨v21, ev21, hf⟩ := lt_some hf
            refine n_imul hx hb ev21 dX12_minute_185 ?_
            refine lv_iload hx hb dX12_minute_186 (lv_at hl 2 rfl) ?_
            obtain ⟨v22, ev22, hf⟩ := lt_some hf
            refine n_iadd hx hb ev22 dX12_minute_188 ?_
            refine lv_iconst (v := 1) hx hb dX12_minute_189 li_1 ?_
            obtain ⟨c23, hf⟩ := gd_some hf
            obtain ⟨u24, eu24, hf⟩ := lt_some hf
            refine n_zast (la' := [((o + 1), x2_0.2.1), ((o + 2), j49_a_wet), ((o + 3), rr1), ((o + 4), u24)]) hx hb hG hR hS k_a_burns c23 hN_A 3 rfl eu24 rfl dX12_minute_190 (fun H locs hR hS => ?_)
            exact hj191 u24 hf _ _ _ hR hS (lv_sub hl [0, 1, 2] rfl)
    refine whl_walk (P := fun (s2 : Int32 × Int32 × (Nat → Int32) × (Nat → Int32)) => ∀ (H : Heap) (locs : List Loc) (ls : Array Slot), RS G K (ov I [(905, o, s2.2.1)]) J X (ova A [((o + 1), s2.2.2.1), ((o + 2), j49_a_wet), ((o + 3), rr1), ((o + 4), s2.2.2.2)]) B Q H → va_S (gA G) s.heap H locs → lv_has ls 5 [(0, .ref o), (3, .int s2.1)] → W p l e ({ frames := 4, cells := 0, slots := 0, locals := 91 } : Room) s m args below meth c H locs 0 0 Z (F0 m 55 ls [])) (r := rl2) ?_ FU _ hw2 _ _ _ hR hS (lv_sub hl [1, 0] rfl)
    clear hR hS hl hf
    intro s2 o2 hf hk2 H locs ls hR hS hl
    obtain ⟨w2_3, w2_i_lost, w2_a_fuel, w2_a_burns⟩ := s2
    have hf : f12_minute_s2 w2_3 w2_i_lost w2_a_fuel w2_a_burns = some o2 := hf
    have hR : RS G K (ov I [(905, o, w2_i_lost)]) J X (ova A [((o + 1), w2_a_fuel), ((o + 2), j49_a_wet), ((o + 3), rr1), ((o + 4), w2_a_burns)]) B Q H := hR
    have hl : lv_has ls 5 [(0, .ref o), (3, .int w2_3)] := hl
    unfold f12_minute_s2 at hf
    refine lv_iload_n hx hb dX12_minute_55 rfl (lv_at hl 1 rfl) ?_
    refine lv_bipush (v := 64) hx hb dX12_minute_56 lb_64 ?_
    refine lv_icmp_ge (tgt := 119) hx hb dX12_minute_58 (by decide) (fun c25 => ?_) (fun c25 => ?_)
    · have hf := ite_t c25 hf
      obtain rfl := some_i hf
      replace hk2 : _ = rl2 := hk2
      subst hk2
      exact hx2_0 (w2_i_lost, w2_a_fuel, w2_a_burns) hfo2 _ _ _ hR hS (lv_sub hl [0] rfl)
    · have hf := ite_f c25 hf
      refine lv_aload_n hx hb dX12_minute_61 rfl (lv_at hl 0 rfl) ?_
      refine g_getr (b := (o + 4)) hx hb hts hown hG hR gFx_X12_21_9 sh_o.1 ((sh_o.2 3 _ rfl).2) dX12_minute_62 ?_
      refine lv_iload_n hx hb dX12_minute_65 rfl (lv_at hl 1 rfl) ?_
      obtain ⟨c26, hf⟩ := gd_some hf
      obtain ⟨v27, ev27, hf⟩ := lt_some hf
      refine n_zald (x := w2_a_burns) hx hb hG hR k_a_burns c26 (ova_get 3 hN_A rfl) ev27 dX12_minute_66 ?_
      have hj113 : ∀ (j113_i_lost : Int32) (j113_a_fuel : Nat → Int32) (j113_a_burns : Nat → Int32), f12_minute_j113 w2_3 j113_i_lost j113_a_fuel j113_a_burns = some o2 → ∀ (H : Heap) (locs : List Loc) (ls : Array Slot), RS G K (ov I [(905, o, j113_i_lost)]) J X (ova A [((o + 1), j113_a_fuel), ((o + 2), j49_a_wet), ((o + 3), rr1), ((o + 4), j113_a_burns)]) B Q H → va_S (gA G) s.heap H locs → lv_has ls 5 [(0, .ref o), (3, .int w2_3)] → W p l e ({ frames := 4, cells := 0, slots := 0, locals := 91 } : Room) s m args below meth c H locs 0 0 Z (F0 m 113 ls []) := by
        intro j113_i_lost j113_a_fuel j113_a_burns hf H locs ls hR hS hl
        unfold f12_minute_j113 at hf
        obtain ⟨v28, ev28, hf⟩ := lt_some hf
        refine lv_iinc (k := 1) (v := v28) (lv' := [(3, .int v28), (0, .ref o)]) hx hb dX12_minute_113 hl rfl (by rw [ev28]; rfl) (by decide) rfl (fun ls hl => ?_)
        refine lv_goto (tgt := 55) hx hb dX12_minute_116 (by decide) ?_
        obtain rfl := some_i hf
        exact hk2 _ _ _ hR hS (lv_sub hl [1, 0] rfl)
      refine lv_if_ne (tgt := 73) hx hb dX12_minute_67 (by decide) (fun c29 => ?_) (fun c29 => ?_)
      · have hf := ite_f c29 hf
        refine lv_aload_n hx hb dX12_minute_73 rfl (lv_at hl 0 rfl) ?_
        refine g_getr (b := (o + 1)) hx hb hts hown hG hR gFx_X12_9_9 sh_o.1 ((sh_o.2 0 _ rfl).2) dX12_minute_74 ?_
        refine lv_iload_n hx hb dX12_minute_77 rfl (lv_at hl 1 rfl) ?_
        refine lv_dup2_11 hx hb dX12_minute_78 rfl rfl ?_
        obtain ⟨c30, hf⟩ := gd_some hf
        obtain ⟨v31, ev31, hf⟩ := lt_some hf
        refine n_iald (x := w2_a_fuel) hx hb hG hR k_a_fuel c30 (ova_get 0 hN_A rfl) ev31 dX12_minute_79 ?_
        refine lv_iconst (v := 1) hx hb dX12_minute_80 li_1 ?_
        obtain ⟨v32, ev32, hf⟩ := lt_some hf
        refine n_isub hx hb ev32 dX12_minute_81 ?_
        obtain ⟨c33, hf⟩ := gd_some hf
        obtain ⟨u34, eu34, hf⟩ := lt_some hf
        refine n_iast (la' := [((o + 1), u34), ((o + 2), j49_a_wet), ((o + 3), rr1), ((o + 4), w2_a_burns)]) hx hb hG hR hS k_a_fuel c33 hN_A 0 rfl eu34 rfl dX12_minute_82 (fun H locs hR hS => ?_)
        refine lv_aload_n hx hb dX12_minute_83 rfl (lv_at hl 0 rfl) ?_
        refine lv_dup hx hb dX12_minute_84 rfl ?_
        refine n_geti (v := w2_i_lost) hx hb hts hown hG hR gFi_X12_29_9 sh_o.1 (ov_get 0 rfl rfl) dX12_minute_85 ?_
        refine lv_iconst (v := 1) hx hb dX12_minute_88 li_1 ?_
        obtain ⟨v35, ev35, hf⟩ := lt_some hf
        refine n_iadd hx hb ev35 dX12_minute_89 ?_
        refine n_puti (li' := [(905, o, v35)]) hx hb hts hown hG hR hS gPi_X12_29_9 sh_o.1 0 rfl rfl rfl dX12_minute_90 (fun H locs hR hS => ?_)
        refine lv_aload_n hx hb dX12_minute_93 rfl (lv_at hl 0 rfl) ?_
        refine g_getr (b := (o + 4)) hx hb hts hown hG hR gFx_X12_21_9 sh_o.1 ((sh_o.2 3 _ rfl).2) dX12_minute_94 ?_
        refine lv_iload_n hx hb dX12_minute_97 rfl (lv_at hl 1 rfl) ?_
        refine lv_aload_n hx hb dX12_minute_98 rfl (lv_at hl 0 rfl) ?_
        refine g_getr (b := (o + 1)) hx hb hts hown hG hR gFx_X12_9_9 sh_o.1 ((sh_o.2 0 _ rfl).2) dX12_minute_99 ?_
        refine lv_iload_n hx hb dX12_minute_102 rfl (lv_at hl 1 rfl) ?_
        obtain ⟨c36, hf⟩ := gd_some hf
        obtain ⟨v37, ev37, hf⟩ := lt_some hf
        refine n_iald (x := u34) hx hb hG hR k_a_fuel c36 (ova_get 0 hN_A rfl) ev37 dX12_minute_103 ?_
        have hj112 : ∀ (j112_s0 : Int32), f12_minute_j112 w2_3 w2_a_burns u34 v35 j112_s0 = some o2 → ∀ (H : Heap) (locs : List Loc) (ls : Array Slot), RS G K (ov I [(905, o, v35)]) J X (ova A [((o + 1), u34), ((o + 2), j49_a_wet), ((o + 3), rr1), ((o + 4), w2_a_burns)]) B Q H → va_S (gA G) s.heap H locs → lv_has ls 5 [(0, .ref o), (3, .int w2_3)] → W p l e ({ frames := 4, cells := 0, slots := 0, locals := 91 } : Room) s m args below meth c H locs 0 0 Z (F0 m 112 ls [.int j112_s0, .int w2_3, .ref (o + 4)]) := by
          intro j112_s0 hf H locs ls hR hS hl
          unfold f12_minute_j112 at hf
          obtain ⟨c38, hf⟩ := gd_some hf
          obtain ⟨u39, eu39, hf⟩ := lt_some hf
          refine n_zast (la' := [((o + 1), u34), ((o + 2), j49_a_wet), ((o + 3), rr1), ((o + 4), u39)]) hx hb hG hR hS k_a_burns c38 hN_A 3 rfl eu39 rfl dX12_minute_112 (fun H locs hR hS => ?_)
          exact hj113 v35 u34 u39 hf _ _ _ hR hS (lv_sub hl [0, 1] rfl)
        refine lv_if_le (tgt := 111) hx hb dX12_minute_104 (by decide) (fun c40 => ?_) (fun c40 => ?_)
        · have hf := ite_t c40 hf
          refine lv_iconst (v := 0) hx hb dX12_minute_111 li_0 ?_
          exact hj112 (0 : Int32) hf _ _ _ hR hS (lv_sub hl [0, 1] rfl)
        · have hf := ite_f c40 hf
          refine lv_iconst (v := 1) hx hb dX12_minute_107 li_1 ?_
          refine lv_goto (tgt := 112) hx hb dX12_minute_108 (by decide) ?_
          exact hj112 (1 : Int32) hf _ _ _ hR hS (lv_sub hl [0, 1] rfl)
      · have hf := ite_t c29 hf
        refine lv_goto (tgt := 113) hx hb dX12_minute_70 (by decide) ?_
        exact hj113 w2_i_lost w2_a_fuel w2_a_burns hf _ _ _ hR hS (lv_sub hl [0, 1] rfl)
  refine lv_icmp_eq (tgt := 49) hx hb dX12_minute_2 (by decide) (fun c41 => ?_) (fun c41 => ?_)
  · have hf := ite_t c41 hf
    exact hj49 a_wet a_burns hf _ _ _ hR hS (lv_sub hl [0] rfl)
  · have hf := ite_f c41 hf
    refine lv_aload_n hx hb dX12_minute_5 rfl (lv_at hl 0 rfl) ?_
    refine g_getr (b := (o + 2)) hx hb hts hown hG hR gFx_X12_15_9 sh_o.1 ((sh_o.2 1 _ rfl).2) dX12_minute_6 ?_
    refine lv_iload_n hx hb dX12_minute_9 rfl (lv_at hl 1 rfl) ?_
    refine lv_dup2_11 hx hb dX12_minute_10 rfl rfl ?_
    obtain ⟨c42, hf⟩ := gd_some hf
    obtain ⟨v43, ev43, hf⟩ := lt_some hf
    refine n_iald (x := a_wet) hx hb hG hR k_a_wet c42 (ova_get 1 hN_A rfl) ev43 dX12_minute_11 ?_
    refine lv_iload_n hx hb dX12_minute_12 rfl (lv_at hl 2 rfl) ?_
    obtain ⟨v44, ev44, hf⟩ := lt_some hf
    refine n_iadd hx hb ev44 dX12_minute_13 ?_
    obtain ⟨c45, hf⟩ := gd_some hf
    obtain ⟨u46, eu46, hf⟩ := lt_some hf
    refine n_iast (la' := [((o + 1), a_fuel), ((o + 2), u46), ((o + 3), a_heat), ((o + 4), a_burns)]) hx hb hG hR hS k_a_wet c45 hN_A 1 rfl eu46 rfl dX12_minute_14 (fun H locs hR hS => ?_)
    refine lv_aload_n hx hb dX12_minute_15 rfl (lv_at hl 0 rfl) ?_
    refine g_getr (b := (o + 4)) hx hb hts hown hG hR gFx_X12_21_9 sh_o.1 ((sh_o.2 3 _ rfl).2) dX12_minute_16 ?_
    refine lv_iload_n hx hb dX12_minute_19 rfl (lv_at hl 1 rfl) ?_
    obtain ⟨c47, hf⟩ := gd_some hf
    obtain ⟨v48, ev48, hf⟩ := lt_some hf
    refine n_zald (x := a_burns) hx hb hG hR k_a_burns c47 (ova_get 3 hN_A rfl) ev48 dX12_minute_20 ?_
    refine lv_if_eq (tgt := 49) hx hb dX12_minute_21 (by decide) (fun c49 => ?_) (fun c49 => ?_)
    · have hf := ite_t c49 hf
      exact hj49 u46 a_burns hf _ _ _ hR hS (lv_sub hl [0] rfl)
    · have hf := ite_f c49 hf
      refine lv_aload_n hx hb dX12_minute_24 rfl (lv_at hl 0 rfl) ?_
      refine g_getr (b := (o + 2)) hx hb hts hown hG hR gFx_X12_15_9 sh_o.1 ((sh_o.2 1 _ rfl).2) dX12_minute_25 ?_
      refine lv_iload_n hx hb dX12_minute_28 rfl (lv_at hl 1 rfl) ?_
      obtain ⟨c50, hf⟩ := gd_some hf
      obtain ⟨v51, ev51, hf⟩ := lt_some hf
      refine n_iald (x := u46) hx hb hG hR k_a_wet c50 (ova_get 1 hN_A rfl) ev51 dX12_minute_29 ?_
      refine lv_bipush (v := 10) hx hb dX12_minute_30 lb_10 ?_
      refine lv_aload_n hx hb dX12_minute_32 rfl (lv_at hl 0 rfl) ?_
      refine g_getr (b := (o + 1)) hx hb hts hown hG hR gFx_X12_9_9 sh_o.1 ((sh_o.2 0 _ rfl).2) dX12_minute_33 ?_
      refine lv_iload_n hx hb dX12_minute_36 rfl (lv_at hl 1 rfl) ?_
      obtain ⟨c52, hf⟩ := gd_some hf
      obtain ⟨v53, ev53, hf⟩ := lt_some hf
      refine n_iald (x := a_fuel) hx hb hG hR k_a_fuel c52 (ova_get 0 hN_A rfl) ev53 dX12_minute_37 ?_
      obtain ⟨v54, ev54, hf⟩ := lt_some hf
      refine n_imul hx hb ev54 dX12_minute_38 ?_
      refine lv_icmp_lt (tgt := 49) hx hb dX12_minute_39 (by decide) (fun c55 => ?_) (fun c55 => ?_)
      · have hf := ite_t c55 hf
        exact hj49 u46 a_burns hf _ _ _ hR hS (lv_sub hl [0] rfl)
      · have hf := ite_f c55 hf
        refine lv_aload_n hx hb dX12_minute_42 rfl (lv_at hl 0 rfl) ?_
        refine g_getr (b := (o + 4)) hx hb hts hown hG hR gFx_X12_21_9 sh_o.1 ((sh_o.2 3 _ rfl).2) dX12_minute_43 ?_
        refine lv_iload_n hx hb dX12_minute_46 rfl (lv_at hl 1 rfl) ?_
        refine lv_iconst (v := 0) hx hb dX12_minute_47 li_0 ?_
        obtain ⟨c56, hf⟩ := gd_some hf
        obtain ⟨u57, eu57, hf⟩ := lt_some hf
        refine n_zast (la' := [((o + 1), a_fuel), ((o + 2), u46), ((o + 3), a_heat), ((o + 4), u57)]) hx hb hG hR hS k_a_burns c56 hN_A 3 rfl eu57 rfl dX12_minute_48 (fun H locs hR hS => ?_)
        exact hj49 u46 u57 hf _ _ _ hR hS (lv_sub hl [0] rfl)
noncomputable def f12_give_e1_0 (x1_0 : Int32 × (Nat → Int32) × (Nat → Int32)) : Option (Int32 × (Nat → Int32) × (Nat → Int32)) :=
  some (x1_0.1, x1_0.2.1, x1_0.2.2)

noncomputable def f12_give_s1 (p1 : Int32) (i_y_rows : Int32) (w1_2 : Int32) (w1_3 : Int32) (w1_a_fuel : Nat → Int32) (w1_a_burns : Nat → Int32) : Option ((Int32 × Int32 × (Nat → Int32) × (Nat → Int32)) ⊕ (Int32 × (Nat → Int32) × (Nat → Int32))) :=
  if i_y_rows ≤ w1_3 then
    some (.inr (w1_2, w1_a_fuel, w1_a_burns))
  else
    lt ((8 : Int32) * w1_3) fun v3 =>
    lt (v3 + p1) fun v4 =>
    gd (inb v4 64) <|
    lt (w1_a_fuel v4.toNatClampNeg) fun v6 =>
    lt (w1_2 + v6) fun v7 =>
    lt ((8 : Int32) * w1_3) fun v8 =>
    lt (v8 + p1) fun v9 =>
    gd (inb v9 64) <|
    lt (upd w1_a_fuel v9.toNatClampNeg (0 : Int32)) fun u11 =>
    lt ((8 : Int32) * w1_3) fun v12 =>
    lt (v12 + p1) fun v13 =>
    gd (inb v13 64) <|
    lt (upd w1_a_burns v13.toNatClampNeg (vp_nar .boolean (0 : Int32))) fun u15 =>
    lt (w1_3 + (1 : Int32)) fun v16 =>
    some (.inl (v7, v16, u11, u15))

noncomputable def f12_give (p1 : Int32) (i_y_rows : Int32) (a_fuel : Nat → Int32) (a_burns : Nat → Int32) : Option (Int32 × (Nat → Int32) × (Nat → Int32)) :=
  (whl (fun (s1 : Int32 × Int32 × (Nat → Int32) × (Nat → Int32)) => f12_give_s1 p1 i_y_rows s1.1 s1.2.1 s1.2.2.1 s1.2.2.2) FU ((0 : Int32), (0 : Int32), a_fuel, a_burns)).bind fun rl1 =>
  f12_give_e1_0 rl1
set_option maxHeartbeats 4000000 in
theorem m12_give (l : Launch) (G : gG) (K : gK) (I : gI) (J : gJ) (X : gX) (A : gI) (B : gJ) (Q : gX) (o : Nat) (y : Nat) (sh_o : Sh K X o 9 rows9) (sh_y : Sh K X y 3 rows3) (x_o_yard : X 904 o = some y) (p1 : Int32) (i_y_rows : Int32) (a_fuel : Nat → Int32) (a_burns : Nat → Int32) (e_i_y_rows : I 305 y = i_y_rows) (e_a_fuel : A (o + 1) = a_fuel) (e_a_burns : A (o + 4) = a_burns) (out : Int32 × (Nat → Int32) × (Nat → Int32)) (hf : f12_give p1 i_y_rows a_fuel a_burns = some out) : GMet l yX12_give cX12_give 4 (some .int) (0) (0) G [.ref o, .int p1] K I J X A B Q (some (.int out.1)) K I J X (ova A [((o + 1), out.2.1), ((o + 4), out.2.2)]) B Q 0 0 := by
  refine GMet.of (y := yX12_give) rfl (Nat.le_of_ble_eq_true rfl) rfl ?_
  intro p e s m below meth c ls hx hb hr hml hlocks hts hown hname hG hR hl
  have hown : s.vm.findClass RX12 = some m.cls := hown
  have k_a_fuel : K (o + 1) = some (.inr (0, 64)) := (sh_o.2 0 _ rfl).1
  have k_a_burns : K (o + 4) = some (.inr (1, 64)) := (sh_o.2 3 _ rfl).1
  have hN_A : nda [(o + 1), (o + 4)] := nd_off o [1, 4] rfl
  have hR : RS G K I J X (ova A [((o + 1), a_fuel), ((o + 4), a_burns)]) B Q s.heap := hR.to rfl rfl rfl (Eq.symm (ova_sc e_a_fuel (ova_sc e_a_burns rfl))) rfl rfl
  have hS : va_S (gA G) s.heap s.heap [] := va_S.rf
  have hend : ∀ (pc : Nat) (H : Heap) (locs : List Loc) (ls : Array Slot), decode cX12_give pc = .ok (.ireturn, 1) → RS G K I J X (ova A [((o + 1), out.2.1), ((o + 4), out.2.2)]) B Q H → va_S (gA G) s.heap H locs → W p l e ({ frames := 0, cells := 0, slots := 0, locals := 0 } : Room) s m ([.ref o, .int p1] : List Value).toArray below meth c H locs 0 0 (MQ below (gQ G (some (.int out.1)) K I J X (ova A [((o + 1), out.2.1), ((o + 4), out.2.2)]) B Q) ([.ref o, .int p1] : List Value).toArray s 0 0 (gA G)) (F0 m pc ls [.int out.1]) := fun pc H locs ls hd hR hS => g_iret hx hb hr hlocks hG hR hS rfl hd
  generalize MQ below (gQ G (some (.int out.1)) K I J X (ova A [((o + 1), out.2.1), ((o + 4), out.2.2)]) B Q) ([.ref o, .int p1] : List Value).toArray s 0 0 (gA G) = Z at hend ⊢
  generalize ([.ref o, .int p1] : List Value).toArray = args at hts hend ⊢
  unfold f12_give at hf
  refine lv_iconst (v := 0) hx hb dX12_give_0 li_0 ?_
  refine lv_istore_n (lv' := [(2, .int (0 : Int32)), (0, .ref o), (1, .int p1)]) hx hb dX12_give_1 rfl hl (by decide) rfl (fun ls hl => ?_)
  refine lv_iconst (v := 0) hx hb dX12_give_2 li_0 ?_
  refine lv_istore_n (lv' := [(3, .int (0 : Int32)), (2, .int (0 : Int32)), (0, .ref o), (1, .int p1)]) hx hb dX12_give_3 rfl hl (by decide) rfl (fun ls hl => ?_)
  obtain ⟨rl1, hw1, hfo1⟩ := bind_s hf
  have hx1_0 : ∀ (x1_0 : Int32 × (Nat → Int32) × (Nat → Int32)), f12_give_e1_0 x1_0 = some out → ∀ (H : Heap) (locs : List Loc) (ls : Array Slot), RS G K I J X (ova A [((o + 1), x1_0.2.1), ((o + 4), x1_0.2.2)]) B Q H → va_S (gA G) s.heap H locs → lv_has ls 4 [(0, .ref o), (2, .int x1_0.1)] → W p l e ({ frames := 0, cells := 0, slots := 0, locals := 0 } : Room) s m args below meth c H locs 0 0 Z (F0 m 59 ls []) := by
    intro x1_0 hf H locs ls hR hS hl
    unfold f12_give_e1_0 at hf
    refine lv_iload_n hx hb dX12_give_59 rfl (lv_at hl 1 rfl) ?_
    obtain rfl := some_i hf
    exact hend _ _ _ _ dX12_give_60 hR hS
  refine whl_walk (P := fun (s1 : Int32 × Int32 × (Nat → Int32) × (Nat → Int32)) => ∀ (H : Heap) (locs : List Loc) (ls : Array Slot), RS G K I J X (ova A [((o + 1), s1.2.2.1), ((o + 4), s1.2.2.2)]) B Q H → va_S (gA G) s.heap H locs → lv_has ls 4 [(0, .ref o), (1, .int p1), (2, .int s1.1), (3, .int s1.2.1)] → W p l e ({ frames := 0, cells := 0, slots := 0, locals := 0 } : Room) s m args below meth c H locs 0 0 Z (F0 m 4 ls [])) (r := rl1) ?_ FU _ hw1 _ _ _ hR hS (lv_sub hl [2, 3, 1, 0] rfl)
  clear hR hS hl hf
  intro s1 o1 hf hk1 H locs ls hR hS hl
  obtain ⟨w1_2, w1_3, w1_a_fuel, w1_a_burns⟩ := s1
  have hf : f12_give_s1 p1 i_y_rows w1_2 w1_3 w1_a_fuel w1_a_burns = some o1 := hf
  have hR : RS G K I J X (ova A [((o + 1), w1_a_fuel), ((o + 4), w1_a_burns)]) B Q H := hR
  have hl : lv_has ls 4 [(0, .ref o), (1, .int p1), (2, .int w1_2), (3, .int w1_3)] := hl
  unfold f12_give_s1 at hf
  refine lv_iload_n hx hb dX12_give_4 rfl (lv_at hl 3 rfl) ?_
  refine lv_aload_n hx hb dX12_give_5 rfl (lv_at hl 0 rfl) ?_
  refine g_getr (b := y) hx hb hts hown hG hR gFx_X12_25_9 sh_o.1 x_o_yard dX12_give_6 ?_
  refine n_geti (v := i_y_rows) hx hb hts hown hG hR gFi_X12_50_3 sh_y.1 e_i_y_rows dX12_give_9 ?_
  refine lv_icmp_ge (tgt := 59) hx hb dX12_give_12 (by decide) (fun c2 => ?_) (fun c2 => ?_)
  · have hf := ite_t c2 hf
    obtain rfl := some_i hf
    replace hk1 : _ = rl1 := hk1
    subst hk1
    exact hx1_0 (w1_2, w1_a_fuel, w1_a_burns) hfo1 _ _ _ hR hS (lv_sub hl [0, 2] rfl)
  · have hf := ite_f c2 hf
    refine lv_iload_n hx hb dX12_give_15 rfl (lv_at hl 2 rfl) ?_
    refine lv_aload_n hx hb dX12_give_16 rfl (lv_at hl 0 rfl) ?_
    refine g_getr (b := (o + 1)) hx hb hts hown hG hR gFx_X12_9_9 sh_o.1 ((sh_o.2 0 _ rfl).2) dX12_give_17 ?_
    refine lv_bipush (v := 8) hx hb dX12_give_20 lb_8 ?_
    refine lv_iload_n hx hb dX12_give_22 rfl (lv_at hl 3 rfl) ?_
    obtain ⟨v3, ev3, hf⟩ := lt_some hf
    refine n_imul hx hb ev3 dX12_give_23 ?_
    refine lv_iload_n hx hb dX12_give_24 rfl (lv_at hl 1 rfl) ?_
    obtain ⟨v4, ev4, hf⟩ := lt_some hf
    refine n_iadd hx hb ev4 dX12_give_25 ?_
    obtain ⟨c5, hf⟩ := gd_some hf
    obtain ⟨v6, ev6, hf⟩ := lt_some hf
    refine n_iald (x := w1_a_fuel) hx hb hG hR k_a_fuel c5 (ova_get 0 hN_A rfl) ev6 dX12_give_26 ?_
    obtain ⟨v7, ev7, hf⟩ := lt_some hf
    refine n_iadd hx hb ev7 dX12_give_27 ?_
    refine lv_istore_n (lv' := [(2, .int v7), (0, .ref o), (1, .int p1), (3, .int w1_3)]) hx hb dX12_give_28 rfl hl (by decide) rfl (fun ls hl => ?_)
    refine lv_aload_n hx hb dX12_give_29 rfl (lv_at hl 1 rfl) ?_
    refine g_getr (b := (o + 1)) hx hb hts hown hG hR gFx_X12_9_9 sh_o.1 ((sh_o.2 0 _ rfl).2) dX12_give_30 ?_
    refine lv_bipush (v := 8) hx hb dX12_give_33 lb_8 ?_
    refine lv_iload_n hx hb dX12_give_35 rfl (lv_at hl 3 rfl) ?_
    obtain ⟨v8, ev8, hf⟩ := lt_some hf
    refine n_imul hx hb ev8 dX12_give_36 ?_
    refine lv_iload_n hx hb dX12_give_37 rfl (lv_at hl 2 rfl) ?_
    obtain ⟨v9, ev9, hf⟩ := lt_some hf
    refine n_iadd hx hb ev9 dX12_give_38 ?_
    refine lv_iconst (v := 0) hx hb dX12_give_39 li_0 ?_
    obtain ⟨c10, hf⟩ := gd_some hf
    obtain ⟨u11, eu11, hf⟩ := lt_some hf
    refine n_iast (la' := [((o + 1), u11), ((o + 4), w1_a_burns)]) hx hb hG hR hS k_a_fuel c10 hN_A 0 rfl eu11 rfl dX12_give_40 (fun H locs hR hS => ?_)
    refine lv_aload_n hx hb dX12_give_41 rfl (lv_at hl 1 rfl) ?_
    refine g_getr (b := (o + 4)) hx hb hts hown hG hR gFx_X12_21_9 sh_o.1 ((sh_o.2 3 _ rfl).2) dX12_give_42 ?_
    refine lv_bipush (v := 8) hx hb dX12_give_45 lb_8 ?_
    refine lv_iload_n hx hb dX12_give_47 rfl (lv_at hl 3 rfl) ?_
    obtain ⟨v12, ev12, hf⟩ := lt_some hf
    refine n_imul hx hb ev12 dX12_give_48 ?_
    refine lv_iload_n hx hb dX12_give_49 rfl (lv_at hl 2 rfl) ?_
    obtain ⟨v13, ev13, hf⟩ := lt_some hf
    refine n_iadd hx hb ev13 dX12_give_50 ?_
    refine lv_iconst (v := 0) hx hb dX12_give_51 li_0 ?_
    obtain ⟨c14, hf⟩ := gd_some hf
    obtain ⟨u15, eu15, hf⟩ := lt_some hf
    refine n_zast (la' := [((o + 1), u11), ((o + 4), u15)]) hx hb hG hR hS k_a_burns c14 hN_A 1 rfl eu15 rfl dX12_give_52 (fun H locs hR hS => ?_)
    obtain ⟨v16, ev16, hf⟩ := lt_some hf
    refine lv_iinc (k := 3) (v := v16) (lv' := [(3, .int v16), (2, .int v7), (0, .ref o), (1, .int p1)]) hx hb dX12_give_53 hl rfl (by rw [ev16]; rfl) (by decide) rfl (fun ls hl => ?_)
    refine lv_goto (tgt := 4) hx hb dX12_give_56 (by decide) ?_
    obtain rfl := some_i hf
    exact hk1 _ _ _ hR hS (lv_sub hl [2, 3, 1, 0] rfl)
noncomputable def f12_aimed_e4_0 (j38_a_heat : Nat → Int32) (x4_0 : Int32) : Option (Int32 × (Nat → Int32)) :=
  some (x4_0, j38_a_heat)

noncomputable def f12_aimed_j120 (w4_4 : Int32) (j120_3 : Int32) : Option ((Int32 × Int32) ⊕ (Int32)) :=
  lt (w4_4 + (1 : Int32)) fun v8 =>
  some (.inl (j120_3, v8))

noncomputable def f12_aimed_j117 (w4_4 : Int32) : Option ((Int32 × Int32) ⊕ (Int32)) :=
  f12_aimed_j120 w4_4 w4_4

noncomputable def f12_aimed_s4 (p1 : Int32) (a_fuel : Nat → Int32) (a_burns : Nat → Int32) (w4_3 : Int32) (w4_4 : Int32) : Option ((Int32 × Int32) ⊕ (Int32)) :=
  if (64 : Int32) ≤ w4_4 then
    some (.inr w4_3)
  else
    gd (inb w4_4 64) <|
    lt (a_burns w4_4.toNatClampNeg) fun v7 =>
    if v7 = 0 then
      f12_aimed_j120 w4_4 w4_3
    else
      if w4_3 = (-1 : Int32) then
        f12_aimed_j117 w4_4
      else
        if p1 = (2 : Int32) then
          gd (inb w4_4 64) <|
          lt (a_fuel w4_4.toNatClampNeg) fun v18 =>
          gd (inb w4_3 64) <|
          lt (a_fuel w4_3.toNatClampNeg) fun v20 =>
          if v20 ≤ v18 then
            f12_aimed_j120 w4_4 w4_3
          else
            f12_aimed_j117 w4_4
        else
          gd (inb w4_4 64) <|
          lt (a_fuel w4_4.toNatClampNeg) fun v13 =>
          gd (inb w4_3 64) <|
          lt (a_fuel w4_3.toNatClampNeg) fun v15 =>
          if v13 ≤ v15 then
            f12_aimed_j120 w4_4 w4_3
          else
            f12_aimed_j117 w4_4

noncomputable def f12_aimed_j38 (p1 : Int32) (a_fuel : Nat → Int32) (a_burns : Nat → Int32) (j38_s0 : Int32) (j38_a_heat : Nat → Int32) : Option (Int32 × (Nat → Int32)) :=
  if p1 = 0 then
    some (j38_s0, j38_a_heat)
  else
    if j38_s0 = (-1 : Int32) then
      (whl (fun (s4 : Int32 × Int32) => f12_aimed_s4 p1 a_fuel a_burns s4.1 s4.2) FU ((-1 : Int32), (0 : Int32))).bind fun rl4 =>
      f12_aimed_e4_0 j38_a_heat rl4
    else
      some (j38_s0, j38_a_heat)

noncomputable def f12_aimed (p1 : Int32) (i_y_columns : Int32) (i_y_rows : Int32) (i_y_wind : Int32) (a_fuel : Nat → Int32) (a_heat : Nat → Int32) (a_burns : Nat → Int32) : Option (Int32 × (Nat → Int32)) :=
  if p1 < (100 : Int32) then
    if p1 = (3 : Int32) then
      (f12_hottest i_y_columns i_y_rows i_y_wind a_fuel a_heat a_burns).bind fun rr23 =>
      f12_aimed_j38 p1 a_fuel a_burns rr23.1 rr23.2
    else
      f12_aimed_j38 p1 a_fuel a_burns (-1 : Int32) a_heat
  else
    lt (p1 - (100 : Int32)) fun v24 =>
    gd (¬ (10 : Int32) = 0) <|
    lt (v24 / (10 : Int32)) fun v25 =>
    lt ((8 : Int32) * v25) fun v27 =>
    lt (p1 - (100 : Int32)) fun v28 =>
    gd (¬ (10 : Int32) = 0) <|
    lt (v28 - v28 / (10 : Int32) * (10 : Int32)) fun v29 =>
    lt (v27 + v29) fun v31 =>
    some (v31, a_heat)
set_option maxHeartbeats 4000000 in
theorem m12_aimed (l : Launch) (G : gG) (K : gK) (I : gI) (J : gJ) (X : gX) (A : gI) (B : gJ) (Q : gX) (o : Nat) (y : Nat) (sh_o : Sh K X o 9 rows9) (sh_y : Sh K X y 3 rows3) (x_o_yard : X 904 o = some y) (p1 : Int32) (i_y_columns : Int32) (i_y_rows : Int32) (i_y_wind : Int32) (a_fuel : Nat → Int32) (a_heat : Nat → Int32) (a_burns : Nat → Int32) (e_i_y_columns : I 304 y = i_y_columns) (e_i_y_rows : I 305 y = i_y_rows) (e_i_y_wind : I 314 y = i_y_wind) (e_a_fuel : A (o + 1) = a_fuel) (e_a_heat : A (o + 3) = a_heat) (e_a_burns : A (o + 4) = a_burns) (out : Int32 × (Nat → Int32)) (hf : f12_aimed p1 i_y_columns i_y_rows i_y_wind a_fuel a_heat a_burns = some out) : GMet l yX12_aimed cX12_aimed 5 (some .int) (5) (114) G [.ref o, .int p1] K I J X A B Q (some (.int out.1)) K I J X (ova A [((o + 1), a_fuel), ((o + 3), out.2), ((o + 4), a_burns)]) B Q 0 0 := by
  refine GMet.of (y := yX12_aimed) rfl (Nat.le_of_ble_eq_true rfl) rfl ?_
  intro p e s m below meth c ls hx hb hr hml hlocks hts hown hname hG hR hl
  have hown : s.vm.findClass RX12 = some m.cls := hown
  have k_a_fuel : K (o + 1) = some (.inr (0, 64)) := (sh_o.2 0 _ rfl).1
  have k_a_heat : K (o + 3) = some (.inr (0, 64)) := (sh_o.2 2 _ rfl).1
  have k_a_burns : K (o + 4) = some (.inr (1, 64)) := (sh_o.2 3 _ rfl).1
  have hN_A : nda [(o + 1), (o + 3), (o + 4)] := nd_off o [1, 3, 4] rfl
  have hR : RS G K I J X (ova A [((o + 1), a_fuel), ((o + 3), a_heat), ((o + 4), a_burns)]) B Q s.heap := hR.to rfl rfl rfl (Eq.symm (ova_sc e_a_fuel (ova_sc e_a_heat (ova_sc e_a_burns rfl)))) rfl rfl
  have hS : va_S (gA G) s.heap s.heap [] := va_S.rf
  have hend : ∀ (pc : Nat) (H : Heap) (locs : List Loc) (ls : Array Slot), decode cX12_aimed pc = .ok (.ireturn, 1) → RS G K I J X (ova A [((o + 1), a_fuel), ((o + 3), out.2), ((o + 4), a_burns)]) B Q H → va_S (gA G) s.heap H locs → W p l e ({ frames := 5, cells := 0, slots := 0, locals := 114 } : Room) s m ([.ref o, .int p1] : List Value).toArray below meth c H locs 0 0 (MQ below (gQ G (some (.int out.1)) K I J X (ova A [((o + 1), a_fuel), ((o + 3), out.2), ((o + 4), a_burns)]) B Q) ([.ref o, .int p1] : List Value).toArray s 0 0 (gA G)) (F0 m pc ls [.int out.1]) := fun pc H locs ls hd hR hS => g_iret hx hb hr hlocks hG hR hS rfl hd
  generalize MQ below (gQ G (some (.int out.1)) K I J X (ova A [((o + 1), a_fuel), ((o + 3), out.2), ((o + 4), a_burns)]) B Q) ([.ref o, .int p1] : List Value).toArray s 0 0 (gA G) = Z at hend ⊢
  generalize ([.ref o, .int p1] : List Value).toArray = args at hts hend ⊢
  unfold f12_aimed at hf
  refine lv_iload_n hx hb dX12_aimed_0 rfl (lv_at hl 1 rfl) ?_
  refine lv_bipush (v := 100) hx hb dX12_aimed_1 lb_100 ?_
  refine lv_icmp_lt (tgt := 25) hx hb dX12_aimed_3 (by decide) (fun c1 => ?_) (fun c1 => ?_)
  · have hf := ite_t c1 hf
    refine lv_iload_n hx hb dX12_aimed_25 rfl (lv_at hl 1 rfl) ?_
    refine lv_iconst (v := 3) hx hb dX12_aimed_26 li_3 ?_
    have hj38 : ∀ (j38_s0 : Int32) (j38_a_heat : Nat → Int32), f12_aimed_j38 p1 a_fuel a_burns j38_s0 j38_a_heat = some out → ∀ (H : Heap) (locs : List Loc) (ls : Array Slot), RS G K I J X (ova A [((o + 1), a_fuel), ((o + 3), j38_a_heat), ((o + 4), a_burns)]) B Q H → va_S (gA G) s.heap H locs → lv_has ls 5 [(0, .ref o), (1, .int p1)] → W p l e ({ frames := 5, cells := 0, slots := 0, locals := 114 } : Room) s m args below meth c H locs 0 0 Z (F0 m 38 ls [.int j38_s0]) := by
      intro j38_s0 j38_a_heat hf H locs ls hR hS hl
      unfold f12_aimed_j38 at hf
      refine lv_istore_n (lv' := [(2, .int j38_s0), (0, .ref o), (1, .int p1)]) hx hb dX12_aimed_38 rfl hl (by decide) rfl (fun ls hl => ?_)
      refine lv_iload_n hx hb dX12_aimed_39 rfl (lv_at hl 2 rfl) ?_
      refine lv_if_eq (tgt := 48) hx hb dX12_aimed_40 (by decide) (fun c2 => ?_) (fun c2 => ?_)
      · have hf := ite_t c2 hf
        refine lv_iload_n hx hb dX12_aimed_48 rfl (lv_at hl 0 rfl) ?_
        obtain rfl := some_i hf
        exact hend _ _ _ _ dX12_aimed_49 hR hS
      · have hf := ite_f c2 hf
        refine lv_iload_n hx hb dX12_aimed_43 rfl (lv_at hl 0 rfl) ?_
        refine lv_iconst (v := -1) hx hb dX12_aimed_44 li_m1 ?_
        refine lv_icmp_eq (tgt := 50) hx hb dX12_aimed_45 (by decide) (fun c3 => ?_) (fun c3 => ?_)
        · have hf := ite_t c3 hf
          refine lv_iconst (v := -1) hx hb dX12_aimed_50 li_m1 ?_
          refine lv_istore_n (lv' := [(3, .int (-1 : Int32)), (2, .int j38_s0), (0, .ref o), (1, .int p1)]) hx hb dX12_aimed_51 rfl hl (by decide) rfl (fun ls hl => ?_)
          refine lv_iconst (v := 0) hx hb dX12_aimed_52 li_0 ?_
          refine lv_istore (lv' := [(4, .int (0 : Int32)), (3, .int (-1 : Int32)), (2, .int j38_s0), (0, .ref o), (1, .int p1)]) hx hb dX12_aimed_53 hl (by decide) rfl (fun ls hl => ?_)
          obtain ⟨rl4, hw4, hfo4⟩ := bind_s hf
          have hx4_0 : ∀ (x4_0 : Int32), f12_aimed_e4_0 j38_a_heat x4_0 = some out → ∀ (H : Heap) (locs : List Loc) (ls : Array Slot), RS G K I J X (ova A [((o + 1), a_fuel), ((o + 3), j38_a_heat), ((o + 4), a_burns)]) B Q H → va_S (gA G) s.heap H locs → lv_has ls 5 [(0, .ref o), (3, .int x4_0)] → W p l e ({ frames := 5, cells := 0, slots := 0, locals := 114 } : Room) s m args below meth c H locs 0 0 Z (F0 m 126 ls []) := by
            intro x4_0 hf H locs ls hR hS hl
            unfold f12_aimed_e4_0 at hf
            refine lv_iload_n hx hb dX12_aimed_126 rfl (lv_at hl 1 rfl) ?_
            obtain rfl := some_i hf
            exact hend _ _ _ _ dX12_aimed_127 hR hS
          refine whl_walk (P := fun (s4 : Int32 × Int32) => ∀ (H : Heap) (locs : List Loc) (ls : Array Slot), RS G K I J X (ova A [((o + 1), a_fuel), ((o + 3), j38_a_heat), ((o + 4), a_burns)]) B Q H → va_S (gA G) s.heap H locs → lv_has ls 5 [(0, .ref o), (1, .int p1), (3, .int s4.1), (4, .int s4.2)] → W p l e ({ frames := 5, cells := 0, slots := 0, locals := 114 } : Room) s m args below meth c H locs 0 0 Z (F0 m 55 ls [])) (r := rl4) ?_ FU _ hw4 _ _ _ hR hS (lv_sub hl [3, 4, 1, 0] rfl)
          clear hR hS hl hf
          intro s4 o4 hf hk4 H locs ls hR hS hl
          obtain ⟨w4_3, w4_4⟩ := s4
          have hf : f12_aimed_s4 p1 a_fuel a_burns w4_3 w4_4 = some o4 := hf
          have hR : RS G K I J X (ova A [((o + 1), a_fuel), ((o + 3), j38_a_heat), ((o + 4), a_burns)]) B Q H := hR
          have hl : lv_has ls 5 [(0, .ref o), (1, .int p1), (3, .int w4_3), (4, .int w4_4)] := hl
          unfold f12_aimed_s4 at hf
          refine lv_iload hx hb dX12_aimed_55 (lv_at hl 3 rfl) ?_
          refine lv_bipush (v := 64) hx hb dX12_aimed_57 lb_64 ?_
          refine lv_icmp_ge (tgt := 126) hx hb dX12_aimed_59 (by decide) (fun c5 => ?_) (fun c5 => ?_)
          · have hf := ite_t c5 hf
            obtain rfl := some_i hf
            replace hk4 : _ = rl4 := hk4
            subst hk4
            exact hx4_0 w4_3 hfo4 _ _ _ hR hS (lv_sub hl [0, 2] rfl)
          · have hf := ite_f c5 hf
            refine lv_aload_n hx hb dX12_aimed_62 rfl (lv_at hl 0 rfl) ?_
            refine g_getr (b := (o + 4)) hx hb hts hown hG hR gFx_X12_21_9 sh_o.1 ((sh_o.2 3 _ rfl).2) dX12_aimed_63 ?_
            refine lv_iload hx hb dX12_aimed_66 (lv_at hl 3 rfl) ?_
            obtain ⟨c6, hf⟩ := gd_some hf
            obtain ⟨v7, ev7, hf⟩ := lt_some hf
            refine n_zald (x := a_burns) hx hb hG hR k_a_burns c6 (ova_get 2 hN_A rfl) ev7 dX12_aimed_68 ?_
            have hj120 : ∀ (j120_3 : Int32), f12_aimed_j120 w4_4 j120_3 = some o4 → ∀ (H : Heap) (locs : List Loc) (ls : Array Slot), RS G K I J X (ova A [((o + 1), a_fuel), ((o + 3), j38_a_heat), ((o + 4), a_burns)]) B Q H → va_S (gA G) s.heap H locs → lv_has ls 5 [(0, .ref o), (1, .int p1), (3, .int j120_3), (4, .int w4_4)] → W p l e ({ frames := 5, cells := 0, slots := 0, locals := 114 } : Room) s m args below meth c H locs 0 0 Z (F0 m 120 ls []) := by
              intro j120_3 hf H locs ls hR hS hl
              unfold f12_aimed_j120 at hf
              obtain ⟨v8, ev8, hf⟩ := lt_some hf
              refine lv_iinc (k := 3) (v := v8) (lv' := [(4, .int v8), (0, .ref o), (1, .int p1), (3, .int j120_3)]) hx hb dX12_aimed_120 hl rfl (by rw [ev8]; rfl) (by decide) rfl (fun ls hl => ?_)
              refine lv_goto (tgt := 55) hx hb dX12_aimed_123 (by decide) ?_
              obtain rfl := some_i hf
              exact hk4 _ _ _ hR hS (lv_sub hl [1, 2, 3, 0] rfl)
            refine lv_if_eq (tgt := 120) hx hb dX12_aimed_69 (by decide) (fun c9 => ?_) (fun c9 => ?_)
            · have hf := ite_t c9 hf
              exact hj120 w4_3 hf _ _ _ hR hS (lv_sub hl [0, 1, 2, 3] rfl)
            · have hf := ite_f c9 hf
              refine lv_iload_n hx hb dX12_aimed_72 rfl (lv_at hl 2 rfl) ?_
              refine lv_iconst (v := -1) hx hb dX12_aimed_73 li_m1 ?_
              have hj117 : ∀ (_ : Unit), f12_aimed_j117 w4_4 = some o4 → ∀ (H : Heap) (locs : List Loc) (ls : Array Slot), RS G K I J X (ova A [((o + 1), a_fuel), ((o + 3), j38_a_heat), ((o + 4), a_burns)]) B Q H → va_S (gA G) s.heap H locs → lv_has ls 5 [(0, .ref o), (1, .int p1), (4, .int w4_4)] → W p l e ({ frames := 5, cells := 0, slots := 0, locals := 114 } : Room) s m args below meth c H locs 0 0 Z (F0 m 117 ls []) := by
                intro _ hf H locs ls hR hS hl
                unfold f12_aimed_j117 at hf
                refine lv_iload hx hb dX12_aimed_117 (lv_at hl 2 rfl) ?_
                refine lv_istore_n (lv' := [(3, .int w4_4), (0, .ref o), (1, .int p1), (4, .int w4_4)]) hx hb dX12_aimed_119 rfl hl (by decide) rfl (fun ls hl => ?_)
                exact hj120 w4_4 hf _ _ _ hR hS (lv_sub hl [1, 2, 0, 3] rfl)
              refine lv_icmp_eq (tgt := 117) hx hb dX12_aimed_74 (by decide) (fun c10 => ?_) (fun c10 => ?_)
              · have hf := ite_t c10 hf
                exact hj117 () hf _ _ _ hR hS (lv_sub hl [0, 1, 3] rfl)
              · have hf := ite_f c10 hf
                refine lv_iload_n hx hb dX12_aimed_77 rfl (lv_at hl 1 rfl) ?_
                refine lv_iconst (v := 2) hx hb dX12_aimed_78 li_2 ?_
                refine lv_icmp_ne (tgt := 101) hx hb dX12_aimed_79 (by decide) (fun c11 => ?_) (fun c11 => ?_)
                · have hf := ite_f c11 hf
                  refine lv_aload_n hx hb dX12_aimed_101 rfl (lv_at hl 0 rfl) ?_
                  refine g_getr (b := (o + 1)) hx hb hts hown hG hR gFx_X12_9_9 sh_o.1 ((sh_o.2 0 _ rfl).2) dX12_aimed_102 ?_
                  refine lv_iload hx hb dX12_aimed_105 (lv_at hl 3 rfl) ?_
                  obtain ⟨c12, hf⟩ := gd_some hf
                  obtain ⟨v13, ev13, hf⟩ := lt_some hf
                  refine n_iald (x := a_fuel) hx hb hG hR k_a_fuel c12 (ova_get 0 hN_A rfl) ev13 dX12_aimed_107 ?_
                  refine lv_aload_n hx hb dX12_aimed_108 rfl (lv_at hl 0 rfl) ?_
                  refine g_getr (b := (o + 1)) hx hb hts hown hG hR gFx_X12_9_9 sh_o.1 ((sh_o.2 0 _ rfl).2) dX12_aimed_109 ?_
                  refine lv_iload_n hx hb dX12_aimed_112 rfl (lv_at hl 2 rfl) ?_
                  obtain ⟨c14, hf⟩ := gd_some hf
                  obtain ⟨v15, ev15, hf⟩ := lt_some hf
                  refine n_iald (x := a_fuel) hx hb hG hR k_a_fuel c14 (ova_get 0 hN_A rfl) ev15 dX12_aimed_113 ?_
                  refine lv_icmp_le (tgt := 120) hx hb dX12_aimed_114 (by decide) (fun c16 => ?_) (fun c16 => ?_)
                  · have hf := ite_t c16 hf
                    exact hj120 w4_3 hf _ _ _ hR hS (lv_sub hl [0, 1, 2, 3] rfl)
                  · have hf := ite_f c16 hf
                    exact hj117 () hf _ _ _ hR hS (lv_sub hl [0, 1, 3] rfl)
                · have hf := ite_t c11 hf
                  refine lv_aload_n hx hb dX12_aimed_82 rfl (lv_at hl 0 rfl) ?_
                  refine g_getr (b := (o + 1)) hx hb hts hown hG hR gFx_X12_9_9 sh_o.1 ((sh_o.2 0 _ rfl).2) dX12_aimed_83 ?_
                  refine lv_iload hx hb dX12_aimed_86 (lv_at hl 3 rfl) ?_
                  obtain ⟨c17, hf⟩ := gd_some hf
                  obtain ⟨v18, ev18, hf⟩ := lt_some hf
                  refine n_iald (x := a_fuel) hx hb hG hR k_a_fuel c17 (ova_get 0 hN_A rfl) ev18 dX12_aimed_88 ?_
                  refine lv_aload_n hx hb dX12_aimed_89 rfl (lv_at hl 0 rfl) ?_
                  refine g_getr (b := (o + 1)) hx hb hts hown hG hR gFx_X12_9_9 sh_o.1 ((sh_o.2 0 _ rfl).2) dX12_aimed_90 ?_
                  refine lv_iload_n hx hb dX12_aimed_93 rfl (lv_at hl 2 rfl) ?_
                  obtain ⟨c19, hf⟩ := gd_some hf
                  obtain ⟨v20, ev20, hf⟩ := lt_some hf
                  refine n_iald (x := a_fuel) hx hb hG hR k_a_fuel c19 (ova_get 0 hN_A rfl) ev20 dX12_aimed_94 ?_
                  refine lv_icmp_ge (tgt := 120) hx hb dX12_aimed_95 (by decide) (fun c21 => ?_) (fun c21 => ?_)
                  · have hf := ite_t c21 hf
                    exact hj120 w4_3 hf _ _ _ hR hS (lv_sub hl [0, 1, 2, 3] rfl)
                  · have hf := ite_f c21 hf
                    refine lv_goto (tgt := 117) hx hb dX12_aimed_98 (by decide) ?_
                    exact hj117 () hf _ _ _ hR hS (lv_sub hl [0, 1, 3] rfl)
        · have hf := ite_f c3 hf
          refine lv_iload_n hx hb dX12_aimed_48 rfl (lv_at hl 0 rfl) ?_
          obtain rfl := some_i hf
          exact hend _ _ _ _ dX12_aimed_49 hR hS
    refine lv_icmp_ne (tgt := 37) hx hb dX12_aimed_27 (by decide) (fun c22 => ?_) (fun c22 => ?_)
    · have hf := ite_f c22 hf
      refine lv_iconst (v := -1) hx hb dX12_aimed_37 li_m1 ?_
      exact hj38 (-1 : Int32) a_heat hf _ _ _ hR hS (lv_sub hl [0, 1] rfl)
    · have hf := ite_t c22 hf
      refine lv_aload_n hx hb dX12_aimed_30 rfl (lv_at hl 0 rfl) ?_
      obtain ⟨rr23, hrr23, hf⟩ := bind_s hf
      refine g0_cV (rm := (4, 91)) (As := []) (rest := []) ⟨hx, hb, hml, hown, hts⟩ hG hR hS (m12_hottest l G K I J X (ova A [((o + 1), a_fuel), ((o + 3), a_heat), ((o + 4), a_burns)]) B Q o y sh_o sh_y x_o_yard i_y_columns i_y_rows i_y_wind a_fuel a_heat a_burns e_i_y_columns e_i_y_rows e_i_y_wind (ova_get 0 hN_A rfl) (ova_get 1 hN_A rfl) (ova_get 2 hN_A rfl) rr23 hrr23) (cwV 0 hts gi_X12_63 rfl rfl rfl hd_X12_hottest ⟨Nat.le_of_ble_eq_true rfl, Nat.le_of_ble_eq_true rfl⟩) sh_o.1 rfl rfl hl.1 (Nat.le_of_ble_eq_true rfl) dX12_aimed_31 ⟨Nat.le_refl _, Nat.le_refl _⟩ rfl (fun H locs hR hS => ?_)
      have hR : RS G K I J X (ova A [((o + 1), a_fuel), ((o + 3), rr23.2), ((o + 4), a_burns)]) B Q H := hR.to rfl rfl rfl (ova_merge (l := [((o + 1), a_fuel), ((o + 3), a_heat), ((o + 4), a_burns)]) hN_A [0, 1, 2] [((o + 1), a_fuel), ((o + 3), rr23.2), ((o + 4), a_burns)] rfl rfl) rfl rfl
      refine lv_goto (tgt := 38) hx hb dX12_aimed_34 (by decide) ?_
      exact hj38 rr23.1 rr23.2 hf _ _ _ hR hS (lv_sub hl [0, 1] rfl)
  · have hf := ite_f c1 hf
    refine lv_bipush (v := 8) hx hb dX12_aimed_6 lb_8 ?_
    refine lv_iload_n hx hb dX12_aimed_8 rfl (lv_at hl 1 rfl) ?_
    refine lv_bipush (v := 100) hx hb dX12_aimed_9 lb_100 ?_
    obtain ⟨v24, ev24, hf⟩ := lt_some hf
    refine n_isub hx hb ev24 dX12_aimed_11 ?_
    refine lv_bipush (v := 10) hx hb dX12_aimed_12 lb_10 ?_
    obtain ⟨c26, hf⟩ := gd_some hf
    obtain ⟨v25, ev25, hf⟩ := lt_some hf
    refine n_idiv hx hb c26 ev25 dX12_aimed_14 ?_
    obtain ⟨v27, ev27, hf⟩ := lt_some hf
    refine n_imul hx hb ev27 dX12_aimed_15 ?_
    refine lv_iload_n hx hb dX12_aimed_16 rfl (lv_at hl 1 rfl) ?_
    refine lv_bipush (v := 100) hx hb dX12_aimed_17 lb_100 ?_
    obtain ⟨v28, ev28, hf⟩ := lt_some hf
    refine n_isub hx hb ev28 dX12_aimed_19 ?_
    refine lv_bipush (v := 10) hx hb dX12_aimed_20 lb_10 ?_
    obtain ⟨c30, hf⟩ := gd_some hf
    obtain ⟨v29, ev29, hf⟩ := lt_some hf
    refine n_irem hx hb c30 ev29 dX12_aimed_22 ?_
    obtain ⟨v31, ev31, hf⟩ := lt_some hf
    refine n_iadd hx hb ev31 dX12_aimed_23 ?_
    obtain rfl := some_i hf
    exact hend _ _ _ _ dX12_aimed_24 hR hS
noncomputable def f9_manR (p1 : Int32) (a_men : Nat → Int32) (q_y_men : Nat → Option Nat) : Option ((Option Nat)) :=
  gd (inb p1 12) <|
  lt (a_men p1.toNatClampNeg) fun v2 =>
  gd (inb v2 12) <|
  lt (q_y_men v2.toNatClampNeg) fun v4 =>
  some v4
set_option maxHeartbeats 4000000 in
theorem m9_manR (l : Launch) (G : gG) (K : gK) (I : gI) (J : gJ) (X : gX) (A : gI) (B : gJ) (Q : gX) (o : Nat) (y : Nat) (sh_o : Sh K X o 7 rows7) (sh_y : Sh K X y 3 rows3) (x_o_yard : X 701 o = some y) (p1 : Int32) (a_men : Nat → Int32) (q_y_men : Nat → Option Nat) (e_a_men : A (o + 1) = a_men) (e_q_y_men : Q (y + 1) = q_y_men) (out : (Option Nat)) (hf : f9_manR p1 a_men q_y_men = some out) : GMet l yX9_man cX9_man 2 (some (.object "PailRow$Man")) (0) (0) G [.ref o, .int p1] K I J X A B Q (some (va_rf out)) K I J X A B Q 0 0 := by
  refine GMet.of (y := yX9_man) rfl (Nat.le_of_ble_eq_true rfl) rfl ?_
  intro p e s m below meth c ls hx hb hr hml hlocks hts hown hname hG hR hl
  have hown : s.vm.findClass RX9 = some m.cls := hown
  have k_a_men : K (o + 1) = some (.inr (0, 12)) := (sh_o.2 0 _ rfl).1
  have k_q_y_men : K (y + 1) = some (.inr (4, 12)) := (sh_y.2 0 _ rfl).1
  have hR : RS G K I J X A B Q s.heap := hR.to rfl rfl rfl rfl rfl rfl
  have hS : va_S (gA G) s.heap s.heap [] := va_S.rf
  have hend : ∀ (pc : Nat) (H : Heap) (locs : List Loc) (ls : Array Slot), decode cX9_man pc = .ok (.areturn, 1) → RS G K I J X A B Q H → va_S (gA G) s.heap H locs → W p l e ({ frames := 0, cells := 0, slots := 0, locals := 0 } : Room) s m ([.ref o, .int p1] : List Value).toArray below meth c H locs 0 0 (MQ below (gQ G (some (va_rf out)) K I J X A B Q) ([.ref o, .int p1] : List Value).toArray s 0 0 (gA G)) (F0 m pc ls [va_rf out]) := fun pc H locs ls hd hR hS => g_aret hx hb hr (Or.inl ⟨_, rfl⟩) hlocks hG hR hS rfl hd
  generalize MQ below (gQ G (some (va_rf out)) K I J X A B Q) ([.ref o, .int p1] : List Value).toArray s 0 0 (gA G) = Z at hend ⊢
  generalize ([.ref o, .int p1] : List Value).toArray = args at hts hend ⊢
  unfold f9_manR at hf
  refine lv_aload_n hx hb dX9_man_0 rfl (lv_at hl 0 rfl) ?_
  refine g_getr (b := y) hx hb hts hown hG hR gFx_X9_15_7 sh_o.1 x_o_yard dX9_man_1 ?_
  refine g_getr (b := (y + 1)) hx hb hts hown hG hR gFx_X9_38_3 sh_y.1 ((sh_y.2 0 _ rfl).2) dX9_man_4 ?_
  refine lv_aload_n hx hb dX9_man_7 rfl (lv_at hl 0 rfl) ?_
  refine g_getr (b := (o + 1)) hx hb hts hown hG hR gFx_X9_9_7 sh_o.1 ((sh_o.2 0 _ rfl).2) dX9_man_8 ?_
  refine lv_iload_n hx hb dX9_man_11 rfl (lv_at hl 1 rfl) ?_
  obtain ⟨c1, hf⟩ := gd_some hf
  obtain ⟨v2, ev2, hf⟩ := lt_some hf
  refine n_iald (x := a_men) hx hb hG hR k_a_men c1 e_a_men ev2 dX9_man_12 ?_
  obtain ⟨c3, hf⟩ := gd_some hf
  obtain ⟨v4, ev4, hf⟩ := lt_some hf
  refine n_aald (x := q_y_men) (t := 0) hx hb hG hR k_q_y_men (by decide) c3 e_q_y_men ev4 dX9_man_13 ?_
  obtain rfl := some_i hf
  exact hend _ _ _ _ dX9_man_14 hR hS
theorem f9_manR_q {p1 : Int32} {a_men : Nat → Int32} {q_y_men : Nat → Option Nat} {out : Option Nat} (h : f9_manR p1 a_men q_y_men = some out) : ∃ j, out = q_y_men j := by
  unfold f9_manR at h
  obtain ⟨-, h⟩ := gd_some h
  obtain ⟨v, -, h⟩ := lt_some h
  obtain ⟨-, h⟩ := gd_some h
  obtain ⟨w, e, h⟩ := lt_some h
  exact ⟨_, (some_i h).symm.trans e⟩
noncomputable def f9_manN (p1 : Int32) (a_men : Nat → Int32) (q_y_men : Nat → Option Nat) : Option ((Option Nat)) :=
  gd (inb p1 12) <|
  lt (a_men p1.toNatClampNeg) fun v2 =>
  gd (inb v2 12) <|
  lt (q_y_men v2.toNatClampNeg) fun v4 =>
  some v4
set_option maxHeartbeats 4000000 in
theorem m9_manN (l : Launch) (G : gG) (K : gK) (I : gI) (J : gJ) (X : gX) (A : gI) (B : gJ) (Q : gX) (o : Nat) (y : Nat) (sh_o : Sh K X o 8 rows8) (sh_y : Sh K X y 3 rows3) (x_o_yard : X 801 o = some y) (p1 : Int32) (a_men : Nat → Int32) (q_y_men : Nat → Option Nat) (e_a_men : A (o + 1) = a_men) (e_q_y_men : Q (y + 1) = q_y_men) (out : (Option Nat)) (hf : f9_manN p1 a_men q_y_men = some out) : GMet l yX9_man cX9_man 2 (some (.object "PailRow$Man")) (0) (0) G [.ref o, .int p1] K I J X A B Q (some (va_rf out)) K I J X A B Q 0 0 := by
  refine GMet.of (y := yX9_man) rfl (Nat.le_of_ble_eq_true rfl) rfl ?_
  intro p e s m below meth c ls hx hb hr hml hlocks hts hown hname hG hR hl
  have hown : s.vm.findClass RX9 = some m.cls := hown
  have k_a_men : K (o + 1) = some (.inr (0, 12)) := (sh_o.2 0 _ rfl).1
  have k_q_y_men : K (y + 1) = some (.inr (4, 12)) := (sh_y.2 0 _ rfl).1
  have hR : RS G K I J X A B Q s.heap := hR.to rfl rfl rfl rfl rfl rfl
  have hS : va_S (gA G) s.heap s.heap [] := va_S.rf
  have hend : ∀ (pc : Nat) (H : Heap) (locs : List Loc) (ls : Array Slot), decode cX9_man pc = .ok (.areturn, 1) → RS G K I J X A B Q H → va_S (gA G) s.heap H locs → W p l e ({ frames := 0, cells := 0, slots := 0, locals := 0 } : Room) s m ([.ref o, .int p1] : List Value).toArray below meth c H locs 0 0 (MQ below (gQ G (some (va_rf out)) K I J X A B Q) ([.ref o, .int p1] : List Value).toArray s 0 0 (gA G)) (F0 m pc ls [va_rf out]) := fun pc H locs ls hd hR hS => g_aret hx hb hr (Or.inl ⟨_, rfl⟩) hlocks hG hR hS rfl hd
  generalize MQ below (gQ G (some (va_rf out)) K I J X A B Q) ([.ref o, .int p1] : List Value).toArray s 0 0 (gA G) = Z at hend ⊢
  generalize ([.ref o, .int p1] : List Value).toArray = args at hts hend ⊢
  unfold f9_manN at hf
  refine lv_aload_n hx hb dX9_man_0 rfl (lv_at hl 0 rfl) ?_
  refine g_getr (b := y) hx hb hts hown hG hR gFx_X9_15_8 sh_o.1 x_o_yard dX9_man_1 ?_
  refine g_getr (b := (y + 1)) hx hb hts hown hG hR gFx_X9_38_3 sh_y.1 ((sh_y.2 0 _ rfl).2) dX9_man_4 ?_
  refine lv_aload_n hx hb dX9_man_7 rfl (lv_at hl 0 rfl) ?_
  refine g_getr (b := (o + 1)) hx hb hts hown hG hR gFx_X9_9_8 sh_o.1 ((sh_o.2 0 _ rfl).2) dX9_man_8 ?_
  refine lv_iload_n hx hb dX9_man_11 rfl (lv_at hl 1 rfl) ?_
  obtain ⟨c1, hf⟩ := gd_some hf
  obtain ⟨v2, ev2, hf⟩ := lt_some hf
  refine n_iald (x := a_men) hx hb hG hR k_a_men c1 e_a_men ev2 dX9_man_12 ?_
  obtain ⟨c3, hf⟩ := gd_some hf
  obtain ⟨v4, ev4, hf⟩ := lt_some hf
  refine n_aald (x := q_y_men) (t := 0) hx hb hG hR k_q_y_men (by decide) c3 e_q_y_men ev4 dX9_man_13 ?_
  obtain rfl := some_i hf
  exact hend _ _ _ _ dX9_man_14 hR hS
theorem f9_manN_q {p1 : Int32} {a_men : Nat → Int32} {q_y_men : Nat → Option Nat} {out : Option Nat} (h : f9_manN p1 a_men q_y_men = some out) : ∃ j, out = q_y_men j := by
  unfold f9_manN at h
  obtain ⟨-, h⟩ := gd_some h
  obtain ⟨v, -, h⟩ := lt_some h
  obtain ⟨-, h⟩ := gd_some h
  obtain ⟨w, e, h⟩ := lt_some h
  exact ⟨_, (some_i h).symm.trans e⟩
noncomputable def f9_drawsR (i_y_hold : Int32) (i_water : Int32) : Option (Int32 × Int32) :=
  lt (if i_water < i_y_hold then i_water else i_y_hold) fun v1 =>
  lt (i_water - v1) fun v2 =>
  some (v1, v2)
set_option maxHeartbeats 4000000 in
theorem m9_drawsR (l : Launch) (G : gG) (K : gK) (I : gI) (J : gJ) (X : gX) (A : gI) (B : gJ) (Q : gX) (o : Nat) (y : Nat) (sh_o : Sh K X o 7 rows7) (sh_y : Sh K X y 3 rows3) (x_o_yard : X 701 o = some y)  (i_y_hold : Int32) (i_water : Int32) (e_i_y_hold : I 308 y = i_y_hold) (e_i_water : I 703 o = i_water) (out : Int32 × Int32) (hf : f9_drawsR i_y_hold i_water = some out) : GMet l yX9_draws cX9_draws 2 (some .int) (1) (21) G [.ref o] K I J X A B Q (some (.int out.1)) K (ov I [(703, o, out.2)]) J X A B Q 0 0 := by
  refine GMet.of (y := yX9_draws) rfl (Nat.le_of_ble_eq_true rfl) rfl ?_
  intro p e s m below meth c ls hx hb hr hml hlocks hts hown hname hG hR hl
  have hown : s.vm.findClass RX9 = some m.cls := hown
  have hR : RS G K (ov I [(703, o, i_water)]) J X A B Q s.heap := hR.to (Eq.symm (ov_sc e_i_water rfl)) rfl rfl rfl rfl rfl
  have hS : va_S (gA G) s.heap s.heap [] := va_S.rf
  have hend : ∀ (pc : Nat) (H : Heap) (locs : List Loc) (ls : Array Slot), decode cX9_draws pc = .ok (.ireturn, 1) → RS G K (ov I [(703, o, out.2)]) J X A B Q H → va_S (gA G) s.heap H locs → W p l e ({ frames := 1, cells := 0, slots := 0, locals := 21 } : Room) s m ([.ref o] : List Value).toArray below meth c H locs 0 0 (MQ below (gQ G (some (.int out.1)) K (ov I [(703, o, out.2)]) J X A B Q) ([.ref o] : List Value).toArray s 0 0 (gA G)) (F0 m pc ls [.int out.1]) := fun pc H locs ls hd hR hS => g_iret hx hb hr hlocks hG hR hS rfl hd
  generalize MQ below (gQ G (some (.int out.1)) K (ov I [(703, o, out.2)]) J X A B Q) ([.ref o] : List Value).toArray s 0 0 (gA G) = Z at hend ⊢
  generalize ([.ref o] : List Value).toArray = args at hts hend ⊢
  unfold f9_drawsR at hf
  refine lv_aload_n hx hb dX9_draws_0 rfl (lv_at hl 0 rfl) ?_
  refine g_getr (b := y) hx hb hts hown hG hR gFx_X9_15_7 sh_o.1 x_o_yard dX9_draws_1 ?_
  refine n_geti (v := i_y_hold) hx hb hts hown hG hR gFi_X9_46_3 sh_y.1 ((congrFun (ov_no rfl) _).trans e_i_y_hold) dX9_draws_4 ?_
  refine lv_aload_n hx hb dX9_draws_7 rfl (lv_at hl 0 rfl) ?_
  refine n_geti (v := i_water) hx hb hts hown hG hR gFi_X9_29_7 sh_o.1 (ov_get 0 rfl rfl) dX9_draws_8 ?_
  obtain ⟨v1, ev1, hf⟩ := lt_some hf
  refine n_mmin hx hb (hml.trans hl.1.symm) hown (hts _ q1182) (hts _ q1183) (hts _ q127) (hts _ q1184) (Nat.le_of_ble_eq_true rfl) (Nat.le_of_ble_eq_true rfl) (Nat.le_refl _) (Nat.le_refl _) ev1 dX9_draws_11 ?_
  refine lv_istore_n (lv' := [(1, .int v1), (0, .ref o)]) hx hb dX9_draws_14 rfl hl (by decide) rfl (fun ls hl => ?_)
  refine lv_aload_n hx hb dX9_draws_15 rfl (lv_at hl 1 rfl) ?_
  refine lv_dup hx hb dX9_draws_16 rfl ?_
  refine n_geti (v := i_water) hx hb hts hown hG hR gFi_X9_29_7 sh_o.1 (ov_get 0 rfl rfl) dX9_draws_17 ?_
  refine lv_iload_n hx hb dX9_draws_20 rfl (lv_at hl 0 rfl) ?_
  obtain ⟨v2, ev2, hf⟩ := lt_some hf
  refine n_isub hx hb ev2 dX9_draws_21 ?_
  refine n_puti (li' := [(703, o, v2)]) hx hb hts hown hG hR hS gPi_X9_29_7 sh_o.1 0 rfl rfl rfl dX9_draws_22 (fun H locs hR hS => ?_)
  refine lv_iload_n hx hb dX9_draws_25 rfl (lv_at hl 0 rfl) ?_
  obtain rfl := some_i hf
  exact hend _ _ _ _ dX9_draws_26 hR hS
noncomputable def f9_drawsN (i_y_hold : Int32) (i_water : Int32) : Option (Int32 × Int32) :=
  lt (if i_water < i_y_hold then i_water else i_y_hold) fun v1 =>
  lt (i_water - v1) fun v2 =>
  some (v1, v2)
set_option maxHeartbeats 4000000 in
theorem m9_drawsN (l : Launch) (G : gG) (K : gK) (I : gI) (J : gJ) (X : gX) (A : gI) (B : gJ) (Q : gX) (o : Nat) (y : Nat) (sh_o : Sh K X o 8 rows8) (sh_y : Sh K X y 3 rows3) (x_o_yard : X 801 o = some y)  (i_y_hold : Int32) (i_water : Int32) (e_i_y_hold : I 308 y = i_y_hold) (e_i_water : I 803 o = i_water) (out : Int32 × Int32) (hf : f9_drawsN i_y_hold i_water = some out) : GMet l yX9_draws cX9_draws 2 (some .int) (1) (21) G [.ref o] K I J X A B Q (some (.int out.1)) K (ov I [(803, o, out.2)]) J X A B Q 0 0 := by
  refine GMet.of (y := yX9_draws) rfl (Nat.le_of_ble_eq_true rfl) rfl ?_
  intro p e s m below meth c ls hx hb hr hml hlocks hts hown hname hG hR hl
  have hown : s.vm.findClass RX9 = some m.cls := hown
  have hR : RS G K (ov I [(803, o, i_water)]) J X A B Q s.heap := hR.to (Eq.symm (ov_sc e_i_water rfl)) rfl rfl rfl rfl rfl
  have hS : va_S (gA G) s.heap s.heap [] := va_S.rf
  have hend : ∀ (pc : Nat) (H : Heap) (locs : List Loc) (ls : Array Slot), decode cX9_draws pc = .ok (.ireturn, 1) → RS G K (ov I [(803, o, out.2)]) J X A B Q H → va_S (gA G) s.heap H locs → W p l e ({ frames := 1, cells := 0, slots := 0, locals := 21 } : Room) s m ([.ref o] : List Value).toArray below meth c H locs 0 0 (MQ below (gQ G (some (.int out.1)) K (ov I [(803, o, out.2)]) J X A B Q) ([.ref o] : List Value).toArray s 0 0 (gA G)) (F0 m pc ls [.int out.1]) := fun pc H locs ls hd hR hS => g_iret hx hb hr hlocks hG hR hS rfl hd
  generalize MQ below (gQ G (some (.int out.1)) K (ov I [(803, o, out.2)]) J X A B Q) ([.ref o] : List Value).toArray s 0 0 (gA G) = Z at hend ⊢
  generalize ([.ref o] : List Value).toArray = args at hts hend ⊢
  unfold f9_drawsN at hf
  refine lv_aload_n hx hb dX9_draws_0 rfl (lv_at hl 0 rfl) ?_
  refine g_getr (b := y) hx hb hts hown hG hR gFx_X9_15_8 sh_o.1 x_o_yard dX9_draws_1 ?_
  refine n_geti (v := i_y_hold) hx hb hts hown hG hR gFi_X9_46_3 sh_y.1 ((congrFun (ov_no rfl) _).trans e_i_y_hold) dX9_draws_4 ?_
  refine lv_aload_n hx hb dX9_draws_7 rfl (lv_at hl 0 rfl) ?_
  refine n_geti (v := i_water) hx hb hts hown hG hR gFi_X9_29_8 sh_o.1 (ov_get 0 rfl rfl) dX9_draws_8 ?_
  obtain ⟨v1, ev1, hf⟩ := lt_some hf
  refine n_mmin hx hb (hml.trans hl.1.symm) hown (hts _ q1182) (hts _ q1183) (hts _ q127) (hts _ q1184) (Nat.le_of_ble_eq_true rfl) (Nat.le_of_ble_eq_true rfl) (Nat.le_refl _) (Nat.le_refl _) ev1 dX9_draws_11 ?_
  refine lv_istore_n (lv' := [(1, .int v1), (0, .ref o)]) hx hb dX9_draws_14 rfl hl (by decide) rfl (fun ls hl => ?_)
  refine lv_aload_n hx hb dX9_draws_15 rfl (lv_at hl 1 rfl) ?_
  refine lv_dup hx hb dX9_draws_16 rfl ?_
  refine n_geti (v := i_water) hx hb hts hown hG hR gFi_X9_29_8 sh_o.1 (ov_get 0 rfl rfl) dX9_draws_17 ?_
  refine lv_iload_n hx hb dX9_draws_20 rfl (lv_at hl 0 rfl) ?_
  obtain ⟨v2, ev2, hf⟩ := lt_some hf
  refine n_isub hx hb ev2 dX9_draws_21 ?_
  refine n_puti (li' := [(803, o, v2)]) hx hb hts hown hG hR hS gPi_X9_29_8 sh_o.1 0 rfl rfl rfl dX9_draws_22 (fun H locs hR hS => ?_)
  refine lv_iload_n hx hb dX9_draws_25 rfl (lv_at hl 0 rfl) ?_
  obtain rfl := some_i hf
  exact hend _ _ _ _ dX9_draws_26 hR hS
noncomputable def f9_beginR (p3 : Int32) (p4 : Int32) (n2 : Nat) (i_many : Int32) (i_water : Int32) (i_thrown : Int32) (i_tick : Int32) (a_men : Nat → Int32) (x2 : Nat → Int32) : Option (Int32 × Int32 × Int32 × Int32 × (Nat → Int32)) :=
  gd (cp_ok (0 : Int32) (0 : Int32) p3 n2 12) <|
  lt (va_cpy x2 a_men (0 : Int32).toNatClampNeg (0 : Int32).toNatClampNeg p3.toNatClampNeg) fun u2 =>
  some (p3, p4, (0 : Int32), (0 : Int32), u2)
set_option maxHeartbeats 4000000 in
theorem m9_beginR (l : Launch) (G : gG) (K : gK) (I : gI) (J : gJ) (X : gX) (A : gI) (B : gJ) (Q : gX) (o : Nat) (y : Nat) (sh_o : Sh K X o 7 rows7) (sh_y : Sh K X y 3 rows3) (r2 n2 : Nat) (k_x2 : K r2 = some (.inr (0, n2))) (ap_o_r2 : o + 21 < r2 ∨ r2 + 0 < o) (p3 : Int32) (p4 : Int32) (i_many : Int32) (i_water : Int32) (i_thrown : Int32) (i_tick : Int32) (x0_yard : Option Nat) (a_men : Nat → Int32) (x2 : Nat → Int32) (e_i_many : I 702 o = i_many) (e_i_water : I 703 o = i_water) (e_i_thrown : I 704 o = i_thrown) (e_i_tick : I 705 o = i_tick) (e_x0_yard : X 701 o = x0_yard) (e_a_men : A (o + 1) = a_men) (e_x2 : A r2 = x2) (out : Int32 × Int32 × Int32 × Int32 × (Nat → Int32)) (hf : f9_beginR p3 p4 n2 i_many i_water i_thrown i_tick a_men x2 = some out) : GMet l yX9_begin cX9_begin 5 none (1) (26) G [.ref o, .ref y, .ref r2, .int p3, .int p4] K I J X A B Q none K (ov I [(702, o, out.1), (703, o, out.2.1), (704, o, out.2.2.1), (705, o, out.2.2.2.1)]) J (ov X [(701, o, (some y))]) (ova A [((o + 1), out.2.2.2.2), (r2, x2)]) B Q 0 0 := by
  refine GMet.of (y := yX9_begin) rfl (Nat.le_of_ble_eq_true rfl) rfl ?_
  intro p e s m below meth c ls hx hb hr hml hlocks hts hown hname hG hR hl
  have hown : s.vm.findClass RX9 = some m.cls := hown
  have k_a_men : K (o + 1) = some (.inr (0, 12)) := (sh_o.2 0 _ rfl).1
  have hN_A : nda [(o + 1), r2] := by simp only [nda, List.nodup_cons, List.mem_cons, List.not_mem_nil, or_false, not_or, not_false_eq_true, List.nodup_nil, and_true]; omega
  have hR : RS G K (ov I [(702, o, i_many), (703, o, i_water), (704, o, i_thrown), (705, o, i_tick)]) J (ov X [(701, o, x0_yard)]) (ova A [((o + 1), a_men), (r2, x2)]) B Q s.heap := hR.to (Eq.symm (ov_sc e_i_many (ov_sc e_i_water (ov_sc e_i_thrown (ov_sc e_i_tick rfl))))) rfl (Eq.symm (ov_sc e_x0_yard rfl)) (Eq.symm (ova_sc e_a_men (ova_sc e_x2 rfl))) rfl rfl
  have hS : va_S (gA G) s.heap s.heap [] := va_S.rf
  have hend : ∀ (pc : Nat) (H : Heap) (locs : List Loc) (ls : Array Slot), decode cX9_begin pc = .ok (.return_, 1) → RS G K (ov I [(702, o, out.1), (703, o, out.2.1), (704, o, out.2.2.1), (705, o, out.2.2.2.1)]) J (ov X [(701, o, (some y))]) (ova A [((o + 1), out.2.2.2.2), (r2, x2)]) B Q H → va_S (gA G) s.heap H locs → W p l e ({ frames := 1, cells := 0, slots := 0, locals := 26 } : Room) s m ([.ref o, .ref y, .ref r2, .int p3, .int p4] : List Value).toArray below meth c H locs 0 0 (MQ below (gQ G none K (ov I [(702, o, out.1), (703, o, out.2.1), (704, o, out.2.2.1), (705, o, out.2.2.2.1)]) J (ov X [(701, o, (some y))]) (ova A [((o + 1), out.2.2.2.2), (r2, x2)]) B Q) ([.ref o, .ref y, .ref r2, .int p3, .int p4] : List Value).toArray s 0 0 (gA G)) (F0 m pc ls []) := fun pc H locs ls hd hR hS => g_vret hx hb hr hlocks hG hR hS rfl hd
  generalize MQ below (gQ G none K (ov I [(702, o, out.1), (703, o, out.2.1), (704, o, out.2.2.1), (705, o, out.2.2.2.1)]) J (ov X [(701, o, (some y))]) (ova A [((o + 1), out.2.2.2.2), (r2, x2)]) B Q) ([.ref o, .ref y, .ref r2, .int p3, .int p4] : List Value).toArray s 0 0 (gA G) = Z at hend ⊢
  generalize ([.ref o, .ref y, .ref r2, .int p3, .int p4] : List Value).toArray = args at hts hend ⊢
  unfold f9_beginR at hf
  refine lv_aload_n hx hb dX9_begin_0 rfl (lv_at hl 0 rfl) ?_
  refine lv_aload_n hx hb dX9_begin_1 rfl (lv_at hl 1 rfl) ?_
  refine n_putx (v := (some y)) (li' := [(701, o, (some y))]) hx hb hts hown hG hR hS gPx_X9_15_7 sh_o.1 0 rfl rfl rfl dX9_begin_2 (fun H locs hR hS => ?_)
  refine lv_aload_n hx hb dX9_begin_5 rfl (lv_at hl 0 rfl) ?_
  refine lv_iload_n hx hb dX9_begin_6 rfl (lv_at hl 3 rfl) ?_
  refine n_puti (li' := [(702, o, p3), (703, o, i_water), (704, o, i_thrown), (705, o, i_tick)]) hx hb hts hown hG hR hS gPi_X9_19_7 sh_o.1 0 rfl rfl rfl dX9_begin_7 (fun H locs hR hS => ?_)
  refine lv_aload_n hx hb dX9_begin_10 rfl (lv_at hl 2 rfl) ?_
  refine lv_iconst (v := 0) hx hb dX9_begin_11 li_0 ?_
  refine lv_aload_n hx hb dX9_begin_12 rfl (lv_at hl 0 rfl) ?_
  refine g_getr (b := (o + 1)) hx hb hts hown hG hR gFx_X9_9_7 sh_o.1 ((congrFun (ov_no rfl) _).trans ((sh_o.2 0 _ rfl).2)) dX9_begin_13 ?_
  refine lv_iconst (v := 0) hx hb dX9_begin_16 li_0 ?_
  refine lv_iload_n hx hb dX9_begin_17 rfl (lv_at hl 3 rfl) ?_
  obtain ⟨c1, hf⟩ := gd_some hf
  obtain ⟨u2, eu2, hf⟩ := lt_some hf
  refine n_copy (la' := [((o + 1), u2), (r2, x2)]) (t := 0) hx hb (hml.trans hl.1.symm) hown (hts _ q1140) (hts _ q1142) (hts _ q1141) (hts _ q126) hG hR hS k_x2 k_a_men (by decide) rfl rfl c1 1 0 hN_A rfl rfl (fun _ _ => rfl) eu2 rfl (Nat.le_of_ble_eq_true rfl) (Nat.le_of_ble_eq_true rfl) dX9_begin_18 (fun H locs hR hS => ?_)
  refine lv_aload_n hx hb dX9_begin_21 rfl (lv_at hl 0 rfl) ?_
  refine lv_iload hx hb dX9_begin_22 (lv_at hl 4 rfl) ?_
  refine n_puti (li' := [(702, o, p3), (703, o, p4), (704, o, i_thrown), (705, o, i_tick)]) hx hb hts hown hG hR hS gPi_X9_29_7 sh_o.1 1 rfl rfl rfl dX9_begin_24 (fun H locs hR hS => ?_)
  refine lv_aload_n hx hb dX9_begin_27 rfl (lv_at hl 0 rfl) ?_
  refine lv_iconst (v := 0) hx hb dX9_begin_28 li_0 ?_
  refine n_puti (li' := [(702, o, p3), (703, o, p4), (704, o, (0 : Int32)), (705, o, i_tick)]) hx hb hts hown hG hR hS gPi_X9_32_7 sh_o.1 2 rfl rfl rfl dX9_begin_29 (fun H locs hR hS => ?_)
  refine lv_aload_n hx hb dX9_begin_32 rfl (lv_at hl 0 rfl) ?_
  refine lv_iconst (v := 0) hx hb dX9_begin_33 li_0 ?_
  refine n_puti (li' := [(702, o, p3), (703, o, p4), (704, o, (0 : Int32)), (705, o, (0 : Int32))]) hx hb hts hown hG hR hS gPi_X9_35_7 sh_o.1 3 rfl rfl rfl dX9_begin_34 (fun H locs hR hS => ?_)
  obtain rfl := some_i hf
  exact hend _ _ _ _ dX9_begin_37 hR hS
noncomputable def f9_beginN (p3 : Int32) (p4 : Int32) (n2 : Nat) (i_many : Int32) (i_water : Int32) (i_thrown : Int32) (i_tick : Int32) (a_men : Nat → Int32) (x2 : Nat → Int32) : Option (Int32 × Int32 × Int32 × Int32 × (Nat → Int32)) :=
  gd (cp_ok (0 : Int32) (0 : Int32) p3 n2 12) <|
  lt (va_cpy x2 a_men (0 : Int32).toNatClampNeg (0 : Int32).toNatClampNeg p3.toNatClampNeg) fun u2 =>
  some (p3, p4, (0 : Int32), (0 : Int32), u2)
set_option maxHeartbeats 4000000 in
theorem m9_beginN (l : Launch) (G : gG) (K : gK) (I : gI) (J : gJ) (X : gX) (A : gI) (B : gJ) (Q : gX) (o : Nat) (y : Nat) (sh_o : Sh K X o 8 rows8) (sh_y : Sh K X y 3 rows3) (r2 n2 : Nat) (k_x2 : K r2 = some (.inr (0, n2))) (ap_o_r2 : o + 4 < r2 ∨ r2 + 0 < o) (p3 : Int32) (p4 : Int32) (i_many : Int32) (i_water : Int32) (i_thrown : Int32) (i_tick : Int32) (x0_yard : Option Nat) (a_men : Nat → Int32) (x2 : Nat → Int32) (e_i_many : I 802 o = i_many) (e_i_water : I 803 o = i_water) (e_i_thrown : I 804 o = i_thrown) (e_i_tick : I 805 o = i_tick) (e_x0_yard : X 801 o = x0_yard) (e_a_men : A (o + 1) = a_men) (e_x2 : A r2 = x2) (out : Int32 × Int32 × Int32 × Int32 × (Nat → Int32)) (hf : f9_beginN p3 p4 n2 i_many i_water i_thrown i_tick a_men x2 = some out) : GMet l yX9_begin cX9_begin 5 none (1) (26) G [.ref o, .ref y, .ref r2, .int p3, .int p4] K I J X A B Q none K (ov I [(802, o, out.1), (803, o, out.2.1), (804, o, out.2.2.1), (805, o, out.2.2.2.1)]) J (ov X [(801, o, (some y))]) (ova A [((o + 1), out.2.2.2.2), (r2, x2)]) B Q 0 0 := by
  refine GMet.of (y := yX9_begin) rfl (Nat.le_of_ble_eq_true rfl) rfl ?_
  intro p e s m below meth c ls hx hb hr hml hlocks hts hown hname hG hR hl
  have hown : s.vm.findClass RX9 = some m.cls := hown
  have k_a_men : K (o + 1) = some (.inr (0, 12)) := (sh_o.2 0 _ rfl).1
  have hN_A : nda [(o + 1), r2] := by simp only [nda, List.nodup_cons, List.mem_cons, List.not_mem_nil, or_false, not_or, not_false_eq_true, List.nodup_nil, and_true]; omega
  have hR : RS G K (ov I [(802, o, i_many), (803, o, i_water), (804, o, i_thrown), (805, o, i_tick)]) J (ov X [(801, o, x0_yard)]) (ova A [((o + 1), a_men), (r2, x2)]) B Q s.heap := hR.to (Eq.symm (ov_sc e_i_many (ov_sc e_i_water (ov_sc e_i_thrown (ov_sc e_i_tick rfl))))) rfl (Eq.symm (ov_sc e_x0_yard rfl)) (Eq.symm (ova_sc e_a_men (ova_sc e_x2 rfl))) rfl rfl
  have hS : va_S (gA G) s.heap s.heap [] := va_S.rf
  have hend : ∀ (pc : Nat) (H : Heap) (locs : List Loc) (ls : Array Slot), decode cX9_begin pc = .ok (.return_, 1) → RS G K (ov I [(802, o, out.1), (803, o, out.2.1), (804, o, out.2.2.1), (805, o, out.2.2.2.1)]) J (ov X [(801, o, (some y))]) (ova A [((o + 1), out.2.2.2.2), (r2, x2)]) B Q H → va_S (gA G) s.heap H locs → W p l e ({ frames := 1, cells := 0, slots := 0, locals := 26 } : Room) s m ([.ref o, .ref y, .ref r2, .int p3, .int p4] : List Value).toArray below meth c H locs 0 0 (MQ below (gQ G none K (ov I [(802, o, out.1), (803, o, out.2.1), (804, o, out.2.2.1), (805, o, out.2.2.2.1)]) J (ov X [(801, o, (some y))]) (ova A [((o + 1), out.2.2.2.2), (r2, x2)]) B Q) ([.ref o, .ref y, .ref r2, .int p3, .int p4] : List Value).toArray s 0 0 (gA G)) (F0 m pc ls []) := fun pc H locs ls hd hR hS => g_vret hx hb hr hlocks hG hR hS rfl hd
  generalize MQ below (gQ G none K (ov I [(802, o, out.1), (803, o, out.2.1), (804, o, out.2.2.1), (805, o, out.2.2.2.1)]) J (ov X [(801, o, (some y))]) (ova A [((o + 1), out.2.2.2.2), (r2, x2)]) B Q) ([.ref o, .ref y, .ref r2, .int p3, .int p4] : List Value).toArray s 0 0 (gA G) = Z at hend ⊢
  generalize ([.ref o, .ref y, .ref r2, .int p3, .int p4] : List Value).toArray = args at hts hend ⊢
  unfold f9_beginN at hf
  refine lv_aload_n hx hb dX9_begin_0 rfl (lv_at hl 0 rfl) ?_
  refine lv_aload_n hx hb dX9_begin_1 rfl (lv_at hl 1 rfl) ?_
  refine n_putx (v := (some y)) (li' := [(801, o, (some y))]) hx hb hts hown hG hR hS gPx_X9_15_8 sh_o.1 0 rfl rfl rfl dX9_begin_2 (fun H locs hR hS => ?_)
  refine lv_aload_n hx hb dX9_begin_5 rfl (lv_at hl 0 rfl) ?_
  refine lv_iload_n hx hb dX9_begin_6 rfl (lv_at hl 3 rfl) ?_
  refine n_puti (li' := [(802, o, p3), (803, o, i_water), (804, o, i_thrown), (805, o, i_tick)]) hx hb hts hown hG hR hS gPi_X9_19_8 sh_o.1 0 rfl rfl rfl dX9_begin_7 (fun H locs hR hS => ?_)
  refine lv_aload_n hx hb dX9_begin_10 rfl (lv_at hl 2 rfl) ?_
  refine lv_iconst (v := 0) hx hb dX9_begin_11 li_0 ?_
  refine lv_aload_n hx hb dX9_begin_12 rfl (lv_at hl 0 rfl) ?_
  refine g_getr (b := (o + 1)) hx hb hts hown hG hR gFx_X9_9_8 sh_o.1 ((congrFun (ov_no rfl) _).trans ((sh_o.2 0 _ rfl).2)) dX9_begin_13 ?_
  refine lv_iconst (v := 0) hx hb dX9_begin_16 li_0 ?_
  refine lv_iload_n hx hb dX9_begin_17 rfl (lv_at hl 3 rfl) ?_
  obtain ⟨c1, hf⟩ := gd_some hf
  obtain ⟨u2, eu2, hf⟩ := lt_some hf
  refine n_copy (la' := [((o + 1), u2), (r2, x2)]) (t := 0) hx hb (hml.trans hl.1.symm) hown (hts _ q1140) (hts _ q1142) (hts _ q1141) (hts _ q126) hG hR hS k_x2 k_a_men (by decide) rfl rfl c1 1 0 hN_A rfl rfl (fun _ _ => rfl) eu2 rfl (Nat.le_of_ble_eq_true rfl) (Nat.le_of_ble_eq_true rfl) dX9_begin_18 (fun H locs hR hS => ?_)
  refine lv_aload_n hx hb dX9_begin_21 rfl (lv_at hl 0 rfl) ?_
  refine lv_iload hx hb dX9_begin_22 (lv_at hl 4 rfl) ?_
  refine n_puti (li' := [(802, o, p3), (803, o, p4), (804, o, i_thrown), (805, o, i_tick)]) hx hb hts hown hG hR hS gPi_X9_29_8 sh_o.1 1 rfl rfl rfl dX9_begin_24 (fun H locs hR hS => ?_)
  refine lv_aload_n hx hb dX9_begin_27 rfl (lv_at hl 0 rfl) ?_
  refine lv_iconst (v := 0) hx hb dX9_begin_28 li_0 ?_
  refine n_puti (li' := [(802, o, p3), (803, o, p4), (804, o, (0 : Int32)), (805, o, i_tick)]) hx hb hts hown hG hR hS gPi_X9_32_8 sh_o.1 2 rfl rfl rfl dX9_begin_29 (fun H locs hR hS => ?_)
  refine lv_aload_n hx hb dX9_begin_32 rfl (lv_at hl 0 rfl) ?_
  refine lv_iconst (v := 0) hx hb dX9_begin_33 li_0 ?_
  refine n_puti (li' := [(802, o, p3), (803, o, p4), (804, o, (0 : Int32)), (805, o, (0 : Int32))]) hx hb hts hown hG hR hS gPi_X9_35_8 sh_o.1 3 rfl rfl rfl dX9_begin_34 (fun H locs hR hS => ?_)
  obtain rfl := some_i hf
  exact hend _ _ _ _ dX9_begin_37 hR hS
noncomputable def f10_begin_e2_0 (i_y_pails : Int32) (rr1 : Int32 × Int32 × Int32 × Int32 × (Nat → Int32)) (x2_0 : (Nat → Int32) × (Nat → Int32) × (Nat → Int32) × (Nat → Int32) × (Nat → Int32) × (Nat → Int32)) : Option (Int32 × Int32 × Int32 × Int32 × Int32 × Int32 × Int32 × Int32 × Int32 × (Nat → Int32) × (Nat → Int32) × (Nat → Int32) × (Nat → Int32) × (Nat → Int32) × (Nat → Int32) × (Nat → Int32)) :=
  some (rr1.1, rr1.2.1, rr1.2.2.1, rr1.2.2.2.1, i_y_pails, (0 : Int32), (0 : Int32), (0 : Int32), (0 : Int32), rr1.2.2.2.2, x2_0.1, x2_0.2.1, x2_0.2.2.1, x2_0.2.2.2.1, x2_0.2.2.2.2.1, x2_0.2.2.2.2.2)

noncomputable def f10_begin_s2 (w2_5 : Int32) (w2_a_done : Nat → Int32) (w2_a_busy : Nat → Int32) (w2_a_litres : Nat → Int32) (w2_a_stands : Nat → Int32) (w2_a_first : Nat → Int32) (w2_a_heaps : Nat → Int32) : Option ((Int32 × (Nat → Int32) × (Nat → Int32) × (Nat → Int32) × (Nat → Int32) × (Nat → Int32) × (Nat → Int32)) ⊕ ((Nat → Int32) × (Nat → Int32) × (Nat → Int32) × (Nat → Int32) × (Nat → Int32) × (Nat → Int32))) :=
  if (12 : Int32) ≤ w2_5 then
    some (.inr (w2_a_done, w2_a_busy, w2_a_litres, w2_a_stands, w2_a_first, w2_a_heaps))
  else
    gd (inb w2_5 12) <|
    lt (upd w2_a_done w2_5.toNatClampNeg (0 : Int32)) fun u5 =>
    gd (inb w2_5 12) <|
    lt (upd w2_a_busy w2_5.toNatClampNeg (0 : Int32)) fun u7 =>
    gd (inb w2_5 12) <|
    lt (upd w2_a_litres w2_5.toNatClampNeg (0 : Int32)) fun u9 =>
    gd (inb w2_5 12) <|
    lt (upd w2_a_stands w2_5.toNatClampNeg (0 : Int32)) fun u11 =>
    gd (inb w2_5 12) <|
    lt (upd w2_a_first w2_5.toNatClampNeg (0 : Int32)) fun u13 =>
    gd (inb w2_5 12) <|
    lt (upd w2_a_heaps w2_5.toNatClampNeg (0 : Int32)) fun u15 =>
    lt (w2_5 + (1 : Int32)) fun v16 =>
    some (.inl (v16, u5, u7, u9, u11, u13, u15))

noncomputable def f10_begin (p3 : Int32) (p4 : Int32) (n2 : Nat) (i_y_pails : Int32) (i_many : Int32) (i_water : Int32) (i_thrown : Int32) (i_tick : Int32) (i_empties : Int32) (i_backFirst : Int32) (i_backMany : Int32) (i_drawn : Int32) (i_spilt : Int32) (a_men : Nat → Int32) (a_done : Nat → Int32) (a_busy : Nat → Int32) (a_litres : Nat → Int32) (a_stands : Nat → Int32) (a_first : Nat → Int32) (a_heaps : Nat → Int32) (x2 : Nat → Int32) : Option (Int32 × Int32 × Int32 × Int32 × Int32 × Int32 × Int32 × Int32 × Int32 × (Nat → Int32) × (Nat → Int32) × (Nat → Int32) × (Nat → Int32) × (Nat → Int32) × (Nat → Int32) × (Nat → Int32)) :=
  (f9_beginR p3 p4 n2 i_many i_water i_thrown i_tick a_men x2).bind fun rr1 =>
  (whl (fun (s2 : Int32 × (Nat → Int32) × (Nat → Int32) × (Nat → Int32) × (Nat → Int32) × (Nat → Int32) × (Nat → Int32)) => f10_begin_s2 s2.1 s2.2.1 s2.2.2.1 s2.2.2.2.1 s2.2.2.2.2.1 s2.2.2.2.2.2.1 s2.2.2.2.2.2.2) FU ((0 : Int32), a_done, a_busy, a_litres, a_stands, a_first, a_heaps)).bind fun rl2 =>
  f10_begin_e2_0 i_y_pails rr1 rl2
set_option maxHeartbeats 4000000 in
theorem m10_begin (l : Launch) (G : gG) (K : gK) (I : gI) (J : gJ) (X : gX) (A : gI) (B : gJ) (Q : gX) (o : Nat) (y : Nat) (sh_o : Sh K X o 7 rows7) (sh_y : Sh K X y 3 rows3) (r2 n2 : Nat) (k_x2 : K r2 = some (.inr (0, n2))) (ap_o_r2 : o + 21 < r2 ∨ r2 + 0 < o) (p3 : Int32) (p4 : Int32) (i_y_pails : Int32) (i_many : Int32) (i_water : Int32) (i_thrown : Int32) (i_tick : Int32) (i_empties : Int32) (i_backFirst : Int32) (i_backMany : Int32) (i_drawn : Int32) (i_spilt : Int32) (x0_yard : Option Nat) (a_men : Nat → Int32) (a_done : Nat → Int32) (a_busy : Nat → Int32) (a_litres : Nat → Int32) (a_stands : Nat → Int32) (a_first : Nat → Int32) (a_heaps : Nat → Int32) (x2 : Nat → Int32) (e_i_y_pails : I 307 y = i_y_pails) (e_i_many : I 702 o = i_many) (e_i_water : I 703 o = i_water) (e_i_thrown : I 704 o = i_thrown) (e_i_tick : I 705 o = i_tick) (e_i_empties : I 714 o = i_empties) (e_i_backFirst : I 715 o = i_backFirst) (e_i_backMany : I 716 o = i_backMany) (e_i_drawn : I 717 o = i_drawn) (e_i_spilt : I 718 o = i_spilt) (e_x0_yard : X 701 o = x0_yard) (e_a_men : A (o + 1) = a_men) (e_a_done : A (o + 2) = a_done) (e_a_busy : A (o + 3) = a_busy) (e_a_litres : A (o + 4) = a_litres) (e_a_stands : A (o + 5) = a_stands) (e_a_first : A (o + 6) = a_first) (e_a_heaps : A (o + 7) = a_heaps) (e_x2 : A r2 = x2) (out : Int32 × Int32 × Int32 × Int32 × Int32 × Int32 × Int32 × Int32 × Int32 × (Nat → Int32) × (Nat → Int32) × (Nat → Int32) × (Nat → Int32) × (Nat → Int32) × (Nat → Int32) × (Nat → Int32)) (hf : f10_begin p3 p4 n2 i_y_pails i_many i_water i_thrown i_tick i_empties i_backFirst i_backMany i_drawn i_spilt a_men a_done a_busy a_litres a_stands a_first a_heaps x2 = some out) : GMet l yX10_begin cX10_begin 6 none (2) (50) G [.ref o, .ref y, .ref r2, .int p3, .int p4] K I J X A B Q none K (ov I [(702, o, out.1), (703, o, out.2.1), (704, o, out.2.2.1), (705, o, out.2.2.2.1), (714, o, out.2.2.2.2.1), (715, o, out.2.2.2.2.2.1), (716, o, out.2.2.2.2.2.2.1), (717, o, out.2.2.2.2.2.2.2.1), (718, o, out.2.2.2.2.2.2.2.2.1)]) J (ov X [(701, o, (some y))]) (ova A [((o + 1), out.2.2.2.2.2.2.2.2.2.1), ((o + 2), out.2.2.2.2.2.2.2.2.2.2.1), ((o + 3), out.2.2.2.2.2.2.2.2.2.2.2.1), ((o + 4), out.2.2.2.2.2.2.2.2.2.2.2.2.1), ((o + 5), out.2.2.2.2.2.2.2.2.2.2.2.2.2.1), ((o + 6), out.2.2.2.2.2.2.2.2.2.2.2.2.2.2.1), ((o + 7), out.2.2.2.2.2.2.2.2.2.2.2.2.2.2.2), (r2, x2)]) B Q 0 0 := by
  refine GMet.of (y := yX10_begin) rfl (Nat.le_of_ble_eq_true rfl) rfl ?_
  intro p e s m below meth c ls hx hb hr hml hlocks hts hown hname hG hR hl
  have hown : s.vm.findClass RX10 = some m.cls := hown
  have k_a_men : K (o + 1) = some (.inr (0, 12)) := (sh_o.2 0 _ rfl).1
  have k_a_done : K (o + 2) = some (.inr (0, 12)) := (sh_o.2 1 _ rfl).1
  have k_a_busy : K (o + 3) = some (.inr (0, 12)) := (sh_o.2 2 _ rfl).1
  have k_a_litres : K (o + 4) = some (.inr (0, 12)) := (sh_o.2 3 _ rfl).1
  have k_a_stands : K (o + 5) = some (.inr (0, 12)) := (sh_o.2 4 _ rfl).1
  have k_a_first : K (o + 6) = some (.inr (0, 12)) := (sh_o.2 5 _ rfl).1
  have k_a_heaps : K (o + 7) = some (.inr (0, 12)) := (sh_o.2 6 _ rfl).1
  have hN_A : nda [(o + 1), (o + 2), (o + 3), (o + 4), (o + 5), (o + 6), (o + 7), r2] := by simp only [nda, List.nodup_cons, List.mem_cons, List.not_mem_nil, or_false, not_or, not_false_eq_true, List.nodup_nil, and_true]; omega
  have hR : RS G K (ov I [(702, o, i_many), (703, o, i_water), (704, o, i_thrown), (705, o, i_tick), (714, o, i_empties), (715, o, i_backFirst), (716, o, i_backMany), (717, o, i_drawn), (718, o, i_spilt)]) J (ov X [(701, o, x0_yard)]) (ova A [((o + 1), a_men), ((o + 2), a_done), ((o + 3), a_busy), ((o + 4), a_litres), ((o + 5), a_stands), ((o + 6), a_first), ((o + 7), a_heaps), (r2, x2)]) B Q s.heap := hR.to (Eq.symm (ov_sc e_i_many (ov_sc e_i_water (ov_sc e_i_thrown (ov_sc e_i_tick (ov_sc e_i_empties (ov_sc e_i_backFirst (ov_sc e_i_backMany (ov_sc e_i_drawn (ov_sc e_i_spilt rfl)))))))))) rfl (Eq.symm (ov_sc e_x0_yard rfl)) (Eq.symm (ova_sc e_a_men (ova_sc e_a_done (ova_sc e_a_busy (ova_sc e_a_litres (ova_sc e_a_stands (ova_sc e_a_first (ova_sc e_a_heaps (ova_sc e_x2 rfl))))))))) rfl rfl
  have hS : va_S (gA G) s.heap s.heap [] := va_S.rf
  have hend : ∀ (pc : Nat) (H : Heap) (locs : List Loc) (ls : Array Slot), decode cX10_begin pc = .ok (.return_, 1) → RS G K (ov I [(702, o, out.1), (703, o, out.2.1), (704, o, out.2.2.1), (705, o, out.2.2.2.1), (714, o, out.2.2.2.2.1), (715, o, out.2.2.2.2.2.1), (716, o, out.2.2.2.2.2.2.1), (717, o, out.2.2.2.2.2.2.2.1), (718, o, out.2.2.2.2.2.2.2.2.1)]) J (ov X [(701, o, (some y))]) (ova A [((o + 1), out.2.2.2.2.2.2.2.2.2.1), ((o + 2), out.2.2.2.2.2.2.2.2.2.2.1), ((o + 3), out.2.2.2.2.2.2.2.2.2.2.2.1), ((o + 4), out.2.2.2.2.2.2.2.2.2.2.2.2.1), ((o + 5), out.2.2.2.2.2.2.2.2.2.2.2.2.2.1), ((o + 6), out.2.2.2.2.2.2.2.2.2.2.2.2.2.2.1), ((o + 7), out.2.2.2.2.2.2.2.2.2.2.2.2.2.2.2), (r2, x2)]) B Q H → va_S (gA G) s.heap H locs → W p l e ({ frames := 2, cells := 0, slots := 0, locals := 50 } : Room) s m ([.ref o, .ref y, .ref r2, .int p3, .int p4] : List Value).toArray below meth c H locs 0 0 (MQ below (gQ G none K (ov I [(702, o, out.1), (703, o, out.2.1), (704, o, out.2.2.1), (705, o, out.2.2.2.1), (714, o, out.2.2.2.2.1), (715, o, out.2.2.2.2.2.1), (716, o, out.2.2.2.2.2.2.1), (717, o, out.2.2.2.2.2.2.2.1), (718, o, out.2.2.2.2.2.2.2.2.1)]) J (ov X [(701, o, (some y))]) (ova A [((o + 1), out.2.2.2.2.2.2.2.2.2.1), ((o + 2), out.2.2.2.2.2.2.2.2.2.2.1), ((o + 3), out.2.2.2.2.2.2.2.2.2.2.2.1), ((o + 4), out.2.2.2.2.2.2.2.2.2.2.2.2.1), ((o + 5), out.2.2.2.2.2.2.2.2.2.2.2.2.2.1), ((o + 6), out.2.2.2.2.2.2.2.2.2.2.2.2.2.2.1), ((o + 7), out.2.2.2.2.2.2.2.2.2.2.2.2.2.2.2), (r2, x2)]) B Q) ([.ref o, .ref y, .ref r2, .int p3, .int p4] : List Value).toArray s 0 0 (gA G)) (F0 m pc ls []) := fun pc H locs ls hd hR hS => g_vret hx hb hr hlocks hG hR hS rfl hd
  generalize MQ below (gQ G none K (ov I [(702, o, out.1), (703, o, out.2.1), (704, o, out.2.2.1), (705, o, out.2.2.2.1), (714, o, out.2.2.2.2.1), (715, o, out.2.2.2.2.2.1), (716, o, out.2.2.2.2.2.2.1), (717, o, out.2.2.2.2.2.2.2.1), (718, o, out.2.2.2.2.2.2.2.2.1)]) J (ov X [(701, o, (some y))]) (ova A [((o + 1), out.2.2.2.2.2.2.2.2.2.1), ((o + 2), out.2.2.2.2.2.2.2.2.2.2.1), ((o + 3), out.2.2.2.2.2.2.2.2.2.2.2.1), ((o + 4), out.2.2.2.2.2.2.2.2.2.2.2.2.1), ((o + 5), out.2.2.2.2.2.2.2.2.2.2.2.2.2.1), ((o + 6), out.2.2.2.2.2.2.2.2.2.2.2.2.2.2.1), ((o + 7), out.2.2.2.2.2.2.2.2.2.2.2.2.2.2.2), (r2, x2)]) B Q) ([.ref o, .ref y, .ref r2, .int p3, .int p4] : List Value).toArray s 0 0 (gA G) = Z at hend ⊢
  generalize ([.ref o, .ref y, .ref r2, .int p3, .int p4] : List Value).toArray = args at hts hend ⊢
  unfold f10_begin at hf
  refine lv_aload_n hx hb dX10_begin_0 rfl (lv_at hl 0 rfl) ?_
  refine lv_aload_n hx hb dX10_begin_1 rfl (lv_at hl 1 rfl) ?_
  refine lv_aload_n hx hb dX10_begin_2 rfl (lv_at hl 2 rfl) ?_
  refine lv_iload_n hx hb dX10_begin_3 rfl (lv_at hl 3 rfl) ?_
  refine lv_iload hx hb dX10_begin_4 (lv_at hl 4 rfl) ?_
  obtain ⟨rr1, hrr1, hf⟩ := bind_s hf
  refine g0_cSUv (rm := (1, 26)) (As := [.ref y, .ref r2, .int p3, .int p4]) (rest := []) ⟨hx, hb, hml, hown, hts⟩ hG hR hS (m9_beginR l G K (ov I [(702, o, i_many), (703, o, i_water), (704, o, i_thrown), (705, o, i_tick), (714, o, i_empties), (715, o, i_backFirst), (716, o, i_backMany), (717, o, i_drawn), (718, o, i_spilt)]) J (ov X [(701, o, x0_yard)]) (ova A [((o + 1), a_men), ((o + 2), a_done), ((o + 3), a_busy), ((o + 4), a_litres), ((o + 5), a_stands), ((o + 6), a_first), ((o + 7), a_heaps), (r2, x2)]) B Q o y (Sh.ov rfl sh_o) (Sh.ov rfl sh_y) r2 n2 k_x2 (by omega) p3 p4 i_many i_water i_thrown i_tick x0_yard a_men x2 (ov_get 0 rfl rfl) (ov_get 1 rfl rfl) (ov_get 2 rfl rfl) (ov_get 3 rfl rfl) (ov_get 0 rfl rfl) (ova_get 0 hN_A rfl) (ova_get 7 hN_A rfl) rr1 hrr1) (va_cwSU 4 hts gs_X10_38 rfl rfl rfl ⟨by decide, (hd_X9_begin.2).2.2⟩ ⟨Nat.le_of_ble_eq_true rfl, Nat.le_of_ble_eq_true rfl⟩) sh_o.1 rfl rfl hl.1 (Nat.le_of_ble_eq_true rfl) dX10_begin_6 ⟨Nat.le_refl _, Nat.le_refl _⟩ rfl (fun H locs hR hS => ?_)
  have hR : RS G K (ov I [(702, o, rr1.1), (703, o, rr1.2.1), (704, o, rr1.2.2.1), (705, o, rr1.2.2.2.1), (714, o, i_empties), (715, o, i_backFirst), (716, o, i_backMany), (717, o, i_drawn), (718, o, i_spilt)]) J (ov X [(701, o, (some y))]) (ova A [((o + 1), rr1.2.2.2.2), ((o + 2), a_done), ((o + 3), a_busy), ((o + 4), a_litres), ((o + 5), a_stands), ((o + 6), a_first), ((o + 7), a_heaps), (r2, x2)]) B Q H := hR.to (ov_merge (l := [(702, o, i_many), (703, o, i_water), (704, o, i_thrown), (705, o, i_tick), (714, o, i_empties), (715, o, i_backFirst), (716, o, i_backMany), (717, o, i_drawn), (718, o, i_spilt)]) rfl [0, 1, 2, 3] [(702, o, rr1.1), (703, o, rr1.2.1), (704, o, rr1.2.2.1), (705, o, rr1.2.2.2.1)] rfl rfl) rfl (ov_merge (l := [(701, o, x0_yard)]) rfl [0] [(701, o, (some y))] rfl rfl) (ova_merge (l := [((o + 1), a_men), ((o + 2), a_done), ((o + 3), a_busy), ((o + 4), a_litres), ((o + 5), a_stands), ((o + 6), a_first), ((o + 7), a_heaps), (r2, x2)]) hN_A [0, 7] [((o + 1), rr1.2.2.2.2), (r2, x2)] rfl rfl) rfl rfl
  refine lv_iconst (v := 0) hx hb dX10_begin_9 li_0 ?_
  refine lv_istore (lv' := [(5, .int (0 : Int32)), (0, .ref o), (1, .ref y), (2, .ref r2), (3, .int p3), (4, .int p4)]) hx hb dX10_begin_10 hl (by decide) rfl (fun ls hl => ?_)
  obtain ⟨rl2, hw2, hfo2⟩ := bind_s hf
  have hx2_0 : ∀ (x2_0 : (Nat → Int32) × (Nat → Int32) × (Nat → Int32) × (Nat → Int32) × (Nat → Int32) × (Nat → Int32)), f10_begin_e2_0 i_y_pails rr1 x2_0 = some out → ∀ (H : Heap) (locs : List Loc) (ls : Array Slot), RS G K (ov I [(702, o, rr1.1), (703, o, rr1.2.1), (704, o, rr1.2.2.1), (705, o, rr1.2.2.2.1), (714, o, i_empties), (715, o, i_backFirst), (716, o, i_backMany), (717, o, i_drawn), (718, o, i_spilt)]) J (ov X [(701, o, (some y))]) (ova A [((o + 1), rr1.2.2.2.2), ((o + 2), x2_0.1), ((o + 3), x2_0.2.1), ((o + 4), x2_0.2.2.1), ((o + 5), x2_0.2.2.2.1), ((o + 6), x2_0.2.2.2.2.1), ((o + 7), x2_0.2.2.2.2.2), (r2, x2)]) B Q H → va_S (gA G) s.heap H locs → lv_has ls 6 [(0, .ref o), (1, .ref y)] → W p l e ({ frames := 2, cells := 0, slots := 0, locals := 50 } : Room) s m args below meth c H locs 0 0 Z (F0 m 73 ls []) := by
    intro x2_0 hf H locs ls hR hS hl
    unfold f10_begin_e2_0 at hf
    refine lv_aload_n hx hb dX10_begin_73 rfl (lv_at hl 0 rfl) ?_
    refine lv_aload_n hx hb dX10_begin_74 rfl (lv_at hl 1 rfl) ?_
    refine n_geti (v := i_y_pails) hx hb hts hown hG hR gFi_X10_42_3 sh_y.1 ((congrFun (ov_no rfl) _).trans e_i_y_pails) dX10_begin_75 ?_
    refine n_puti (li' := [(702, o, rr1.1), (703, o, rr1.2.1), (704, o, rr1.2.2.1), (705, o, rr1.2.2.2.1), (714, o, i_y_pails), (715, o, i_backFirst), (716, o, i_backMany), (717, o, i_drawn), (718, o, i_spilt)]) hx hb hts hown hG hR hS gPi_X10_47_7 sh_o.1 4 rfl rfl rfl dX10_begin_78 (fun H locs hR hS => ?_)
    refine lv_aload_n hx hb dX10_begin_81 rfl (lv_at hl 0 rfl) ?_
    refine lv_iconst (v := 0) hx hb dX10_begin_82 li_0 ?_
    refine n_puti (li' := [(702, o, rr1.1), (703, o, rr1.2.1), (704, o, rr1.2.2.1), (705, o, rr1.2.2.2.1), (714, o, i_y_pails), (715, o, (0 : Int32)), (716, o, i_backMany), (717, o, i_drawn), (718, o, i_spilt)]) hx hb hts hown hG hR hS gPi_X10_50_7 sh_o.1 5 rfl rfl rfl dX10_begin_83 (fun H locs hR hS => ?_)
    refine lv_aload_n hx hb dX10_begin_86 rfl (lv_at hl 0 rfl) ?_
    refine lv_iconst (v := 0) hx hb dX10_begin_87 li_0 ?_
    refine n_puti (li' := [(702, o, rr1.1), (703, o, rr1.2.1), (704, o, rr1.2.2.1), (705, o, rr1.2.2.2.1), (714, o, i_y_pails), (715, o, (0 : Int32)), (716, o, (0 : Int32)), (717, o, i_drawn), (718, o, i_spilt)]) hx hb hts hown hG hR hS gPi_X10_53_7 sh_o.1 6 rfl rfl rfl dX10_begin_88 (fun H locs hR hS => ?_)
    refine lv_aload_n hx hb dX10_begin_91 rfl (lv_at hl 0 rfl) ?_
    refine lv_iconst (v := 0) hx hb dX10_begin_92 li_0 ?_
    refine n_puti (li' := [(702, o, rr1.1), (703, o, rr1.2.1), (704, o, rr1.2.2.1), (705, o, rr1.2.2.2.1), (714, o, i_y_pails), (715, o, (0 : Int32)), (716, o, (0 : Int32)), (717, o, (0 : Int32)), (718, o, i_spilt)]) hx hb hts hown hG hR hS gPi_X10_56_7 sh_o.1 7 rfl rfl rfl dX10_begin_93 (fun H locs hR hS => ?_)
    refine lv_aload_n hx hb dX10_begin_96 rfl (lv_at hl 0 rfl) ?_
    refine lv_iconst (v := 0) hx hb dX10_begin_97 li_0 ?_
    refine n_puti (li' := [(702, o, rr1.1), (703, o, rr1.2.1), (704, o, rr1.2.2.1), (705, o, rr1.2.2.2.1), (714, o, i_y_pails), (715, o, (0 : Int32)), (716, o, (0 : Int32)), (717, o, (0 : Int32)), (718, o, (0 : Int32))]) hx hb hts hown hG hR hS gPi_X10_59_7 sh_o.1 8 rfl rfl rfl dX10_begin_98 (fun H locs hR hS => ?_)
    obtain rfl := some_i hf
    exact hend _ _ _ _ dX10_begin_101 hR hS
  refine whl_walk (P := fun (s2 : Int32 × (Nat → Int32) × (Nat → Int32) × (Nat → Int32) × (Nat → Int32) × (Nat → Int32) × (Nat → Int32)) => ∀ (H : Heap) (locs : List Loc) (ls : Array Slot), RS G K (ov I [(702, o, rr1.1), (703, o, rr1.2.1), (704, o, rr1.2.2.1), (705, o, rr1.2.2.2.1), (714, o, i_empties), (715, o, i_backFirst), (716, o, i_backMany), (717, o, i_drawn), (718, o, i_spilt)]) J (ov X [(701, o, (some y))]) (ova A [((o + 1), rr1.2.2.2.2), ((o + 2), s2.2.1), ((o + 3), s2.2.2.1), ((o + 4), s2.2.2.2.1), ((o + 5), s2.2.2.2.2.1), ((o + 6), s2.2.2.2.2.2.1), ((o + 7), s2.2.2.2.2.2.2), (r2, x2)]) B Q H → va_S (gA G) s.heap H locs → lv_has ls 6 [(0, .ref o), (1, .ref y), (5, .int s2.1)] → W p l e ({ frames := 2, cells := 0, slots := 0, locals := 50 } : Room) s m args below meth c H locs 0 0 Z (F0 m 12 ls [])) (r := rl2) ?_ FU _ hw2 _ _ _ hR hS (lv_sub hl [1, 2, 0] rfl)
  clear hR hS hl hf
  intro s2 o2 hf hk2 H locs ls hR hS hl
  obtain ⟨w2_5, w2_a_done, w2_a_busy, w2_a_litres, w2_a_stands, w2_a_first, w2_a_heaps⟩ := s2
  have hf : f10_begin_s2 w2_5 w2_a_done w2_a_busy w2_a_litres w2_a_stands w2_a_first w2_a_heaps = some o2 := hf
  have hR : RS G K (ov I [(702, o, rr1.1), (703, o, rr1.2.1), (704, o, rr1.2.2.1), (705, o, rr1.2.2.2.1), (714, o, i_empties), (715, o, i_backFirst), (716, o, i_backMany), (717, o, i_drawn), (718, o, i_spilt)]) J (ov X [(701, o, (some y))]) (ova A [((o + 1), rr1.2.2.2.2), ((o + 2), w2_a_done), ((o + 3), w2_a_busy), ((o + 4), w2_a_litres), ((o + 5), w2_a_stands), ((o + 6), w2_a_first), ((o + 7), w2_a_heaps), (r2, x2)]) B Q H := hR
  have hl : lv_has ls 6 [(0, .ref o), (1, .ref y), (5, .int w2_5)] := hl
  unfold f10_begin_s2 at hf
  refine lv_iload hx hb dX10_begin_12 (lv_at hl 2 rfl) ?_
  refine lv_bipush (v := 12) hx hb dX10_begin_14 lb_12 ?_
  refine lv_icmp_ge (tgt := 73) hx hb dX10_begin_16 (by decide) (fun c3 => ?_) (fun c3 => ?_)
  · have hf := ite_t c3 hf
    obtain rfl := some_i hf
    replace hk2 : _ = rl2 := hk2
    subst hk2
    exact hx2_0 (w2_a_done, w2_a_busy, w2_a_litres, w2_a_stands, w2_a_first, w2_a_heaps) hfo2 _ _ _ hR hS (lv_sub hl [0, 1] rfl)
  · have hf := ite_f c3 hf
    refine lv_aload_n hx hb dX10_begin_19 rfl (lv_at hl 0 rfl) ?_
    refine g_getr (b := (o + 2)) hx hb hts hown hG hR gFx_X10_9_7 sh_o.1 ((congrFun (ov_no rfl) _).trans ((sh_o.2 1 _ rfl).2)) dX10_begin_20 ?_
    refine lv_iload hx hb dX10_begin_23 (lv_at hl 2 rfl) ?_
    refine lv_iconst (v := 0) hx hb dX10_begin_25 li_0 ?_
    obtain ⟨c4, hf⟩ := gd_some hf
    obtain ⟨u5, eu5, hf⟩ := lt_some hf
    refine n_iast (la' := [((o + 1), rr1.2.2.2.2), ((o + 2), u5), ((o + 3), w2_a_busy), ((o + 4), w2_a_litres), ((o + 5), w2_a_stands), ((o + 6), w2_a_first), ((o + 7), w2_a_heaps), (r2, x2)]) hx hb hG hR hS k_a_done c4 hN_A 1 rfl eu5 rfl dX10_begin_26 (fun H locs hR hS => ?_)
    refine lv_aload_n hx hb dX10_begin_27 rfl (lv_at hl 0 rfl) ?_
    refine g_getr (b := (o + 3)) hx hb hts hown hG hR gFx_X10_15_7 sh_o.1 ((congrFun (ov_no rfl) _).trans ((sh_o.2 2 _ rfl).2)) dX10_begin_28 ?_
    refine lv_iload hx hb dX10_begin_31 (lv_at hl 2 rfl) ?_
    refine lv_iconst (v := 0) hx hb dX10_begin_33 li_0 ?_
    obtain ⟨c6, hf⟩ := gd_some hf
    obtain ⟨u7, eu7, hf⟩ := lt_some hf
    refine n_iast (la' := [((o + 1), rr1.2.2.2.2), ((o + 2), u5), ((o + 3), u7), ((o + 4), w2_a_litres), ((o + 5), w2_a_stands), ((o + 6), w2_a_first), ((o + 7), w2_a_heaps), (r2, x2)]) hx hb hG hR hS k_a_busy c6 hN_A 2 rfl eu7 rfl dX10_begin_34 (fun H locs hR hS => ?_)
    refine lv_aload_n hx hb dX10_begin_35 rfl (lv_at hl 0 rfl) ?_
    refine g_getr (b := (o + 4)) hx hb hts hown hG hR gFx_X10_18_7 sh_o.1 ((congrFun (ov_no rfl) _).trans ((sh_o.2 3 _ rfl).2)) dX10_begin_36 ?_
    refine lv_iload hx hb dX10_begin_39 (lv_at hl 2 rfl) ?_
    refine lv_iconst (v := 0) hx hb dX10_begin_41 li_0 ?_
    obtain ⟨c8, hf⟩ := gd_some hf
    obtain ⟨u9, eu9, hf⟩ := lt_some hf
    refine n_iast (la' := [((o + 1), rr1.2.2.2.2), ((o + 2), u5), ((o + 3), u7), ((o + 4), u9), ((o + 5), w2_a_stands), ((o + 6), w2_a_first), ((o + 7), w2_a_heaps), (r2, x2)]) hx hb hG hR hS k_a_litres c8 hN_A 3 rfl eu9 rfl dX10_begin_42 (fun H locs hR hS => ?_)
    refine lv_aload_n hx hb dX10_begin_43 rfl (lv_at hl 0 rfl) ?_
    refine g_getr (b := (o + 5)) hx hb hts hown hG hR gFx_X10_21_7 sh_o.1 ((congrFun (ov_no rfl) _).trans ((sh_o.2 4 _ rfl).2)) dX10_begin_44 ?_
    refine lv_iload hx hb dX10_begin_47 (lv_at hl 2 rfl) ?_
    refine lv_iconst (v := 0) hx hb dX10_begin_49 li_0 ?_
    obtain ⟨c10, hf⟩ := gd_some hf
    obtain ⟨u11, eu11, hf⟩ := lt_some hf
    refine n_iast (la' := [((o + 1), rr1.2.2.2.2), ((o + 2), u5), ((o + 3), u7), ((o + 4), u9), ((o + 5), u11), ((o + 6), w2_a_first), ((o + 7), w2_a_heaps), (r2, x2)]) hx hb hG hR hS k_a_stands c10 hN_A 4 rfl eu11 rfl dX10_begin_50 (fun H locs hR hS => ?_)
    refine lv_aload_n hx hb dX10_begin_51 rfl (lv_at hl 0 rfl) ?_
    refine g_getr (b := (o + 6)) hx hb hts hown hG hR gFx_X10_24_7 sh_o.1 ((congrFun (ov_no rfl) _).trans ((sh_o.2 5 _ rfl).2)) dX10_begin_52 ?_
    refine lv_iload hx hb dX10_begin_55 (lv_at hl 2 rfl) ?_
    refine lv_iconst (v := 0) hx hb dX10_begin_57 li_0 ?_
    obtain ⟨c12, hf⟩ := gd_some hf
    obtain ⟨u13, eu13, hf⟩ := lt_some hf
    refine n_iast (la' := [((o + 1), rr1.2.2.2.2), ((o + 2), u5), ((o + 3), u7), ((o + 4), u9), ((o + 5), u11), ((o + 6), u13), ((o + 7), w2_a_heaps), (r2, x2)]) hx hb hG hR hS k_a_first c12 hN_A 5 rfl eu13 rfl dX10_begin_58 (fun H locs hR hS => ?_)
    refine lv_aload_n hx hb dX10_begin_59 rfl (lv_at hl 0 rfl) ?_
    refine g_getr (b := (o + 7)) hx hb hts hown hG hR gFx_X10_27_7 sh_o.1 ((congrFun (ov_no rfl) _).trans ((sh_o.2 6 _ rfl).2)) dX10_begin_60 ?_
    refine lv_iload hx hb dX10_begin_63 (lv_at hl 2 rfl) ?_
    refine lv_iconst (v := 0) hx hb dX10_begin_65 li_0 ?_
    obtain ⟨c14, hf⟩ := gd_some hf
    obtain ⟨u15, eu15, hf⟩ := lt_some hf
    refine n_iast (la' := [((o + 1), rr1.2.2.2.2), ((o + 2), u5), ((o + 3), u7), ((o + 4), u9), ((o + 5), u11), ((o + 6), u13), ((o + 7), u15), (r2, x2)]) hx hb hG hR hS k_a_heaps c14 hN_A 6 rfl eu15 rfl dX10_begin_66 (fun H locs hR hS => ?_)
    obtain ⟨v16, ev16, hf⟩ := lt_some hf
    refine lv_iinc (k := 2) (v := v16) (lv' := [(5, .int v16), (0, .ref o), (1, .ref y)]) hx hb dX10_begin_67 hl rfl (by rw [ev16]; rfl) (by decide) rfl (fun ls hl => ?_)
    refine lv_goto (tgt := 12) hx hb dX10_begin_70 (by decide) ?_
    obtain rfl := some_i hf
    exact hk2 _ _ _ hR hS (lv_sub hl [1, 2, 0] rfl)
noncomputable def f11_begin_e3_0 (x3_0 : Int32 × Int32 × Int32 × Int32 × Int32 × (Nat → Int32) × (Nat → Int32)) : Option (Int32 × Int32 × Int32 × Int32 × Int32 × (Nat → Int32) × (Nat → Int32)) :=
  some x3_0

noncomputable def f11_begin_s3 (rr2 : Int32 × Int32 × Int32 × Int32 × (Nat → Int32)) (w3_5 : Int32) (w3_a_does : Nat → Int32) : Option ((Int32 × (Nat → Int32)) ⊕ (Int32 × Int32 × Int32 × Int32 × Int32 × (Nat → Int32) × (Nat → Int32))) :=
  if (12 : Int32) ≤ w3_5 then
    some (.inr (rr2.1, rr2.2.1, rr2.2.2.1, rr2.2.2.2.1, (0 : Int32), rr2.2.2.2.2, w3_a_does))
  else
    gd (inb w3_5 12) <|
    lt (upd w3_a_does w3_5.toNatClampNeg (0 : Int32)) fun u6 =>
    lt (w3_5 + (1 : Int32)) fun v7 =>
    some (.inl (v7, u6))

noncomputable def f11_begin (p3 : Int32) (p4 : Int32) (n2 : Nat) (i_y_pails : Int32) (i_many : Int32) (i_water : Int32) (i_thrown : Int32) (i_tick : Int32) (i_drawing : Int32) (a_men : Nat → Int32) (a_does : Nat → Int32) (x2 : Nat → Int32) : Option (Int32 × Int32 × Int32 × Int32 × Int32 × (Nat → Int32) × (Nat → Int32)) :=
  lt (if i_y_pails < p3 then i_y_pails else p3) fun v1 =>
  (f9_beginN v1 p4 n2 i_many i_water i_thrown i_tick a_men x2).bind fun rr2 =>
  (whl (fun (s3 : Int32 × (Nat → Int32)) => f11_begin_s3 rr2 s3.1 s3.2) FU ((0 : Int32), a_does)).bind fun rl3 =>
  f11_begin_e3_0 rl3
set_option maxHeartbeats 4000000 in
theorem m11_begin (l : Launch) (G : gG) (K : gK) (I : gI) (J : gJ) (X : gX) (A : gI) (B : gJ) (Q : gX) (o : Nat) (y : Nat) (sh_o : Sh K X o 8 rows8) (sh_y : Sh K X y 3 rows3) (r2 n2 : Nat) (k_x2 : K r2 = some (.inr (0, n2))) (ap_o_r2 : o + 4 < r2 ∨ r2 + 0 < o) (p3 : Int32) (p4 : Int32) (i_y_pails : Int32) (i_many : Int32) (i_water : Int32) (i_thrown : Int32) (i_tick : Int32) (i_drawing : Int32) (x0_yard : Option Nat) (a_men : Nat → Int32) (a_does : Nat → Int32) (x2 : Nat → Int32) (e_i_y_pails : I 307 y = i_y_pails) (e_i_many : I 802 o = i_many) (e_i_water : I 803 o = i_water) (e_i_thrown : I 804 o = i_thrown) (e_i_tick : I 805 o = i_tick) (e_i_drawing : I 809 o = i_drawing) (e_x0_yard : X 801 o = x0_yard) (e_a_men : A (o + 1) = a_men) (e_a_does : A (o + 2) = a_does) (e_x2 : A r2 = x2) (out : Int32 × Int32 × Int32 × Int32 × Int32 × (Nat → Int32) × (Nat → Int32)) (hf : f11_begin p3 p4 n2 i_y_pails i_many i_water i_thrown i_tick i_drawing a_men a_does x2 = some out) : GMet l yX11_begin cX11_begin 6 none (2) (50) G [.ref o, .ref y, .ref r2, .int p3, .int p4] K I J X A B Q none K (ov I [(802, o, out.1), (803, o, out.2.1), (804, o, out.2.2.1), (805, o, out.2.2.2.1), (809, o, out.2.2.2.2.1)]) J (ov X [(801, o, (some y))]) (ova A [((o + 1), out.2.2.2.2.2.1), ((o + 2), out.2.2.2.2.2.2), (r2, x2)]) B Q 0 0 := by
  refine GMet.of (y := yX11_begin) rfl (Nat.le_of_ble_eq_true rfl) rfl ?_
  intro p e s m below meth c ls hx hb hr hml hlocks hts hown hname hG hR hl
  have hown : s.vm.findClass RX11 = some m.cls := hown
  have k_a_men : K (o + 1) = some (.inr (0, 12)) := (sh_o.2 0 _ rfl).1
  have k_a_does : K (o + 2) = some (.inr (0, 12)) := (sh_o.2 1 _ rfl).1
  have hN_A : nda [(o + 1), (o + 2), r2] := by simp only [nda, List.nodup_cons, List.mem_cons, List.not_mem_nil, or_false, not_or, not_false_eq_true, List.nodup_nil, and_true]; omega
  have hR : RS G K (ov I [(802, o, i_many), (803, o, i_water), (804, o, i_thrown), (805, o, i_tick), (809, o, i_drawing)]) J (ov X [(801, o, x0_yard)]) (ova A [((o + 1), a_men), ((o + 2), a_does), (r2, x2)]) B Q s.heap := hR.to (Eq.symm (ov_sc e_i_many (ov_sc e_i_water (ov_sc e_i_thrown (ov_sc e_i_tick (ov_sc e_i_drawing rfl)))))) rfl (Eq.symm (ov_sc e_x0_yard rfl)) (Eq.symm (ova_sc e_a_men (ova_sc e_a_does (ova_sc e_x2 rfl)))) rfl rfl
  have hS : va_S (gA G) s.heap s.heap [] := va_S.rf
  have hend : ∀ (pc : Nat) (H : Heap) (locs : List Loc) (ls : Array Slot), decode cX11_begin pc = .ok (.return_, 1) → RS G K (ov I [(802, o, out.1), (803, o, out.2.1), (804, o, out.2.2.1), (805, o, out.2.2.2.1), (809, o, out.2.2.2.2.1)]) J (ov X [(801, o, (some y))]) (ova A [((o + 1), out.2.2.2.2.2.1), ((o + 2), out.2.2.2.2.2.2), (r2, x2)]) B Q H → va_S (gA G) s.heap H locs → W p l e ({ frames := 2, cells := 0, slots := 0, locals := 50 } : Room) s m ([.ref o, .ref y, .ref r2, .int p3, .int p4] : List Value).toArray below meth c H locs 0 0 (MQ below (gQ G none K (ov I [(802, o, out.1), (803, o, out.2.1), (804, o, out.2.2.1), (805, o, out.2.2.2.1), (809, o, out.2.2.2.2.1)]) J (ov X [(801, o, (some y))]) (ova A [((o + 1), out.2.2.2.2.2.1), ((o + 2), out.2.2.2.2.2.2), (r2, x2)]) B Q) ([.ref o, .ref y, .ref r2, .int p3, .int p4] : List Value).toArray s 0 0 (gA G)) (F0 m pc ls []) := fun pc H locs ls hd hR hS => g_vret hx hb hr hlocks hG hR hS rfl hd
  generalize MQ below (gQ G none K (ov I [(802, o, out.1), (803, o, out.2.1), (804, o, out.2.2.1), (805, o, out.2.2.2.1), (809, o, out.2.2.2.2.1)]) J (ov X [(801, o, (some y))]) (ova A [((o + 1), out.2.2.2.2.2.1), ((o + 2), out.2.2.2.2.2.2), (r2, x2)]) B Q) ([.ref o, .ref y, .ref r2, .int p3, .int p4] : List Value).toArray s 0 0 (gA G) = Z at hend ⊢
  generalize ([.ref o, .ref y, .ref r2, .int p3, .int p4] : List Value).toArray = args at hts hend ⊢
  unfold f11_begin at hf
  refine lv_aload_n hx hb dX11_begin_0 rfl (lv_at hl 0 rfl) ?_
  refine lv_aload_n hx hb dX11_begin_1 rfl (lv_at hl 1 rfl) ?_
  refine lv_aload_n hx hb dX11_begin_2 rfl (lv_at hl 2 rfl) ?_
  refine lv_iload_n hx hb dX11_begin_3 rfl (lv_at hl 3 rfl) ?_
  refine lv_aload_n hx hb dX11_begin_4 rfl (lv_at hl 1 rfl) ?_
  refine n_geti (v := i_y_pails) hx hb hts hown hG hR gFi_X11_21_3 sh_y.1 ((congrFun (ov_no rfl) _).trans e_i_y_pails) dX11_begin_5 ?_
  obtain ⟨v1, ev1, hf⟩ := lt_some hf
  refine n_mmin hx hb (hml.trans hl.1.symm) hown (hts _ q1252) (hts _ q1183) (hts _ q127) (hts _ q1184) (Nat.le_of_ble_eq_true rfl) (Nat.le_of_ble_eq_true rfl) (Nat.le_refl _) (Nat.le_refl _) ev1 dX11_begin_8 ?_
  refine lv_iload hx hb dX11_begin_11 (lv_at hl 4 rfl) ?_
  obtain ⟨rr2, hrr2, hf⟩ := bind_s hf
  refine g0_cSUv (rm := (1, 26)) (As := [.ref y, .ref r2, .int v1, .int p4]) (rest := []) ⟨hx, hb, hml, hown, hts⟩ hG hR hS (m9_beginN l G K (ov I [(802, o, i_many), (803, o, i_water), (804, o, i_thrown), (805, o, i_tick), (809, o, i_drawing)]) J (ov X [(801, o, x0_yard)]) (ova A [((o + 1), a_men), ((o + 2), a_does), (r2, x2)]) B Q o y (Sh.ov rfl sh_o) (Sh.ov rfl sh_y) r2 n2 k_x2 (by omega) v1 p4 i_many i_water i_thrown i_tick x0_yard a_men x2 (ov_get 0 rfl rfl) (ov_get 1 rfl rfl) (ov_get 2 rfl rfl) (ov_get 3 rfl rfl) (ov_get 0 rfl rfl) (ova_get 0 hN_A rfl) (ova_get 2 hN_A rfl) rr2 hrr2) (va_cwSU 4 hts gs_X11_33 rfl rfl rfl ⟨by decide, (hd_X9_begin.2).2.2⟩ ⟨Nat.le_of_ble_eq_true rfl, Nat.le_of_ble_eq_true rfl⟩) sh_o.1 rfl rfl hl.1 (Nat.le_of_ble_eq_true rfl) dX11_begin_13 ⟨Nat.le_refl _, Nat.le_refl _⟩ rfl (fun H locs hR hS => ?_)
  have hR : RS G K (ov I [(802, o, rr2.1), (803, o, rr2.2.1), (804, o, rr2.2.2.1), (805, o, rr2.2.2.2.1), (809, o, i_drawing)]) J (ov X [(801, o, (some y))]) (ova A [((o + 1), rr2.2.2.2.2), ((o + 2), a_does), (r2, x2)]) B Q H := hR.to (ov_merge (l := [(802, o, i_many), (803, o, i_water), (804, o, i_thrown), (805, o, i_tick), (809, o, i_drawing)]) rfl [0, 1, 2, 3] [(802, o, rr2.1), (803, o, rr2.2.1), (804, o, rr2.2.2.1), (805, o, rr2.2.2.2.1)] rfl rfl) rfl (ov_merge (l := [(801, o, x0_yard)]) rfl [0] [(801, o, (some y))] rfl rfl) (ova_merge (l := [((o + 1), a_men), ((o + 2), a_does), (r2, x2)]) hN_A [0, 2] [((o + 1), rr2.2.2.2.2), (r2, x2)] rfl rfl) rfl rfl
  refine lv_aload_n hx hb dX11_begin_16 rfl (lv_at hl 0 rfl) ?_
  refine lv_iconst (v := 0) hx hb dX11_begin_17 li_0 ?_
  refine n_putz (li' := [(802, o, rr2.1), (803, o, rr2.2.1), (804, o, rr2.2.2.1), (805, o, rr2.2.2.2.1), (809, o, (0 : Int32))]) hx hb hts hown hG hR hS gPz_X11_37_8 sh_o.1 nz_0 4 rfl rfl rfl dX11_begin_18 (fun H locs hR hS => ?_)
  refine lv_iconst (v := 0) hx hb dX11_begin_21 li_0 ?_
  refine lv_istore (lv' := [(5, .int (0 : Int32)), (0, .ref o), (1, .ref y), (2, .ref r2), (3, .int p3), (4, .int p4)]) hx hb dX11_begin_22 hl (by decide) rfl (fun ls hl => ?_)
  obtain ⟨rl3, hw3, hfo3⟩ := bind_s hf
  have hx3_0 : ∀ (x3_0 : Int32 × Int32 × Int32 × Int32 × Int32 × (Nat → Int32) × (Nat → Int32)), f11_begin_e3_0 x3_0 = some out → ∀ (pc : Nat) (H : Heap) (locs : List Loc) (ls : Array Slot), decode cX11_begin pc = .ok (.return_, 1) → RS G K (ov I [(802, o, x3_0.1), (803, o, x3_0.2.1), (804, o, x3_0.2.2.1), (805, o, x3_0.2.2.2.1), (809, o, x3_0.2.2.2.2.1)]) J (ov X [(801, o, (some y))]) (ova A [((o + 1), x3_0.2.2.2.2.2.1), ((o + 2), x3_0.2.2.2.2.2.2), (r2, x2)]) B Q H → va_S (gA G) s.heap H locs → W p l e ({ frames := 2, cells := 0, slots := 0, locals := 50 } : Room) s m args below meth c H locs 0 0 Z (F0 m pc ls []) := by
    intro x3_0 hf pc H locs ls hd hR hS
    unfold f11_begin_e3_0 at hf
    obtain rfl := some_i hf
    exact hend _ _ _ _ hd hR hS
  refine whl_walk (P := fun (s3 : Int32 × (Nat → Int32)) => ∀ (H : Heap) (locs : List Loc) (ls : Array Slot), RS G K (ov I [(802, o, rr2.1), (803, o, rr2.2.1), (804, o, rr2.2.2.1), (805, o, rr2.2.2.2.1), (809, o, (0 : Int32))]) J (ov X [(801, o, (some y))]) (ova A [((o + 1), rr2.2.2.2.2), ((o + 2), s3.2), (r2, x2)]) B Q H → va_S (gA G) s.heap H locs → lv_has ls 6 [(0, .ref o), (5, .int s3.1)] → W p l e ({ frames := 2, cells := 0, slots := 0, locals := 50 } : Room) s m args below meth c H locs 0 0 Z (F0 m 24 ls [])) (r := rl3) ?_ FU _ hw3 _ _ _ hR hS (lv_sub hl [1, 0] rfl)
  clear hR hS hl hf
  intro s3 o3 hf hk3 H locs ls hR hS hl
  obtain ⟨w3_5, w3_a_does⟩ := s3
  have hf : f11_begin_s3 rr2 w3_5 w3_a_does = some o3 := hf
  have hR : RS G K (ov I [(802, o, rr2.1), (803, o, rr2.2.1), (804, o, rr2.2.2.1), (805, o, rr2.2.2.2.1), (809, o, (0 : Int32))]) J (ov X [(801, o, (some y))]) (ova A [((o + 1), rr2.2.2.2.2), ((o + 2), w3_a_does), (r2, x2)]) B Q H := hR
  have hl : lv_has ls 6 [(0, .ref o), (5, .int w3_5)] := hl
  unfold f11_begin_s3 at hf
  refine lv_iload hx hb dX11_begin_24 (lv_at hl 1 rfl) ?_
  refine lv_bipush (v := 12) hx hb dX11_begin_26 lb_12 ?_
  refine lv_icmp_ge (tgt := 45) hx hb dX11_begin_28 (by decide) (fun c4 => ?_) (fun c4 => ?_)
  · have hf := ite_t c4 hf
    obtain rfl := some_i hf
    replace hk3 : _ = rl3 := hk3
    subst hk3
    exact hx3_0 (rr2.1, rr2.2.1, rr2.2.2.1, rr2.2.2.2.1, (0 : Int32), rr2.2.2.2.2, w3_a_does) hfo3 _ _ _ _ dX11_begin_45 hR hS
  · have hf := ite_f c4 hf
    refine lv_aload_n hx hb dX11_begin_31 rfl (lv_at hl 0 rfl) ?_
    refine g_getr (b := (o + 2)) hx hb hts hown hG hR gFx_X11_9_8 sh_o.1 ((congrFun (ov_no rfl) _).trans ((sh_o.2 1 _ rfl).2)) dX11_begin_32 ?_
    refine lv_iload hx hb dX11_begin_35 (lv_at hl 1 rfl) ?_
    refine lv_iconst (v := 0) hx hb dX11_begin_37 li_0 ?_
    obtain ⟨c5, hf⟩ := gd_some hf
    obtain ⟨u6, eu6, hf⟩ := lt_some hf
    refine n_iast (la' := [((o + 1), rr2.2.2.2.2), ((o + 2), u6), (r2, x2)]) hx hb hG hR hS k_a_does c5 hN_A 1 rfl eu6 rfl dX11_begin_38 (fun H locs hR hS => ?_)
    obtain ⟨v7, ev7, hf⟩ := lt_some hf
    refine lv_iinc (k := 1) (v := v7) (lv' := [(5, .int v7), (0, .ref o)]) hx hb dX11_begin_39 hl rfl (by rw [ev7]; rfl) (by decide) rfl (fun ls hl => ?_)
    refine lv_goto (tgt := 24) hx hb dX11_begin_42 (by decide) ?_
    obtain rfl := some_i hf
    exact hk3 _ _ _ hR hS (lv_sub hl [1, 0] rfl)
