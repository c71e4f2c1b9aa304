/-! the walks of PailRow (printed by tools) 3 -/
set_option maxRecDepth 100000
noncomputable def f1_timeBy (p1 : Int32) (i_y_way : Int32) (i_y_draw : Int32) (i_y_thrown : Int32) (i_o16_many : Int32) (a_o16_men : Nat → Int32) (a_beside : Nat → Int32) (q_y_men : Nat → Option Nat) (mi_hand : Nat → Int32) : Option (Int32) :=
  (f10_time p1 i_y_way i_y_draw i_y_thrown i_o16_many a_o16_men q_y_men mi_hand).bind fun rr1 =>
  gd (inb p1 12) <|
  lt (a_beside p1.toNatClampNeg) fun v3 =>
  lt (v3 + (1 : Int32)) fun v4 =>
  (f1_up rr1 v4).bind fun rr5 =>
  some rr5
set_option maxHeartbeats 4000000 in
theorem m1_timeBy (l : Launch) (G : gG) (K : gK) (I : gI) (J : gJ) (X : gX) (A : gI) (B : gJ) (Q : gX) (o : Nat) (y : Nat) (sh_o : Sh K X o 0 rows0) (sh_y : Sh K X y 3 rows3) (sh_o16 : Sh K X (o + 16) 7 rows7) (x_o16_yard : X 701 (o + 16) = some y) (x_o_row : X 13 o = some (o + 16)) (p1 : Int32) (i_y_way : Int32) (i_y_draw : Int32) (i_y_thrown : Int32) (i_o16_many : Int32) (a_o16_men : Nat → Int32) (a_beside : Nat → Int32) (q_y_men : Nat → Option Nat) (mi_hand : Nat → Int32) (e_i_y_way : I 306 y = i_y_way) (e_i_y_draw : I 309 y = i_y_draw) (e_i_y_thrown : I 313 y = i_y_thrown) (e_i_o16_many : I 702 (o + 16) = i_o16_many) (e_a_o16_men : A (o + 17) = a_o16_men) (e_a_beside : A (o + 76) = a_beside) (e_q_y_men : Q (y + 1) = q_y_men) (e_mi_hand : I 1201 = mi_hand) (hman : ∀ (j m : Nat), q_y_men j = some m → K m = some (.inl 12)) (out : Int32) (hf : f1_timeBy p1 i_y_way i_y_draw i_y_thrown i_o16_many a_o16_men a_beside q_y_men mi_hand = some out) : GMet l yX1_timeBy cX1_timeBy 2 (some .int) (2) (43) G [.ref o, .int p1] K I J X A B Q (some (.int out)) K I J X A B Q 0 0 := by
  refine GMet.of (y := yX1_timeBy) rfl (Nat.le_of_ble_eq_true rfl) rfl ?_
  intro p e s m below meth c ls hx hb hr hml hlocks hts hown hname hG hR hl
  have hown : s.vm.findClass RX1 = some m.cls := hown
  have k_a_o16_men : K (o + 17) = some (.inr (0, 12)) := (sh_o16.2 0 _ rfl).1
  have k_a_beside : K (o + 76) = some (.inr (0, 12)) := (sh_o.2 11 _ rfl).1
  have k_q_y_men : K (y + 1) = some (.inr (4, 12)) := (sh_y.2 0 _ rfl).1
  have hR : RS G K I J X A B Q s.heap := hR.to rfl rfl rfl rfl rfl rfl
  have hS : va_S (gA G) s.heap s.heap [] := va_S.rf
  have hend : ∀ (pc : Nat) (H : Heap) (locs : List Loc) (ls : Array Slot), decode cX1_timeBy pc = .ok (.ireturn, 1) → RS G K I J X A B Q H → va_S (gA G) s.heap H locs → W p l e ({ frames := 2, cells := 0, slots := 0, locals := 43 } : Room) s m ([.ref o, .int p1] : List Value).toArray below meth c H locs 0 0 (MQ below (gQ G (some (.int out)) K I J X A B Q) ([.ref o, .int p1] : List Value).toArray s 0 0 (gA G)) (F0 m pc ls [.int out]) := fun pc H locs ls hd hR hS => g_iret hx hb hr hlocks hG hR hS rfl hd
  generalize MQ below (gQ G (some (.int out)) K I J X A B Q) ([.ref o, .int p1] : List Value).toArray s 0 0 (gA G) = Z at hend ⊢
  generalize ([.ref o, .int p1] : List Value).toArray = args at hts hend ⊢
  unfold f1_timeBy at hf
  refine lv_aload_n hx hb dX1_timeBy_0 rfl (lv_at hl 0 rfl) ?_
  refine g_getr (b := (o + 16)) hx hb hts hown hG hR gFx_X1_119_0 sh_o.1 x_o_row dX1_timeBy_1 ?_
  refine lv_iload_n hx hb dX1_timeBy_4 rfl (lv_at hl 1 rfl) ?_
  obtain ⟨rr1, hrr1, hf⟩ := bind_s hf
  refine g0_cV (rm := (1, 21)) (As := [.int p1]) (rest := []) ⟨hx, hb, hml, hown, hts⟩ hG hR hS (m10_time l G K I J X A B Q (o + 16) y sh_o16 sh_y x_o16_yard p1 i_y_way i_y_draw i_y_thrown i_o16_many a_o16_men q_y_men mi_hand e_i_y_way e_i_y_draw e_i_y_thrown e_i_o16_many e_a_o16_men e_q_y_men e_mi_hand hman rr1 hrr1) (cwV 1 hts gi_X1_390 rfl rfl rfl hd_X10_time ⟨Nat.le_of_ble_eq_true rfl, Nat.le_of_ble_eq_true rfl⟩) sh_o16.1 rfl rfl hl.1 (Nat.le_of_ble_eq_true rfl) dX1_timeBy_5 ⟨Nat.le_refl _, Nat.le_refl _⟩ rfl (fun H locs hR hS => ?_)
  refine lv_aload_n hx hb dX1_timeBy_8 rfl (lv_at hl 0 rfl) ?_
  refine g_getr (b := (o + 76)) hx hb hts hown hG hR gFx_X1_154_0 sh_o.1 ((sh_o.2 11 _ rfl).2) dX1_timeBy_9 ?_
  refine lv_iload_n hx hb dX1_timeBy_12 rfl (lv_at hl 1 rfl) ?_
  obtain ⟨c2, hf⟩ := gd_some hf
  obtain ⟨v3, ev3, hf⟩ := lt_some hf
  refine n_iald (x := a_beside) hx hb hG hR k_a_beside c2 e_a_beside ev3 dX1_timeBy_13 ?_
  refine lv_iconst (v := 1) hx hb dX1_timeBy_14 li_1 ?_
  obtain ⟨v4, ev4, hf⟩ := lt_some hf
  refine n_iadd hx hb ev4 dX1_timeBy_15 ?_
  obtain ⟨rr5, hrr5, hf⟩ := bind_s hf
  refine g0_cS (rm := (0, 0)) (As := [.int rr1, .int v4]) (rest := []) ⟨hx, hb, hml, hown, hts⟩ hG hR hS (m1_up l G K I J X A B Q rr1 v4 rr5 hrr5) (cwS 2 hts gi_X1_393 rfl rfl rfl hd_X1_up ⟨Nat.le_of_ble_eq_true rfl, Nat.le_of_ble_eq_true rfl⟩) rfl hl.1 (Nat.le_of_ble_eq_true rfl) dX1_timeBy_16 ⟨Nat.le_refl _, Nat.le_refl _⟩ rfl (fun H locs hR hS => ?_)
  obtain rfl := some_i hf
  exact hend _ _ _ _ dX1_timeBy_19 hR hS
noncomputable def f1_slowest_e1_0 (x1_0 : Int32) : Option (Int32) :=
  some x1_0

noncomputable def f1_slowest_j27 (w1_2 : Int32) (j27_1 : Int32) : Option ((Int32 × Int32) ⊕ (Int32)) :=
  lt (w1_2 + (1 : Int32)) fun v5 =>
  some (.inl (j27_1, v5))

noncomputable def f1_slowest_s1 (i_askedMany : Int32) (i_y_way : Int32) (i_y_draw : Int32) (i_y_thrown : Int32) (i_o16_many : Int32) (a_o16_men : Nat → Int32) (a_beside : Nat → Int32) (q_y_men : Nat → Option Nat) (mi_hand : Nat → Int32) (w1_1 : Int32) (w1_2 : Int32) : Option ((Int32 × Int32) ⊕ (Int32)) :=
  if i_askedMany ≤ w1_2 then
    some (.inr w1_1)
  else
    (f1_timeBy w1_2 i_y_way i_y_draw i_y_thrown i_o16_many a_o16_men a_beside q_y_men mi_hand).bind fun rr3 =>
    (f1_timeBy w1_1 i_y_way i_y_draw i_y_thrown i_o16_many a_o16_men a_beside q_y_men mi_hand).bind fun rr4 =>
    if rr3 ≤ rr4 then
      f1_slowest_j27 w1_2 w1_1
    else
      f1_slowest_j27 w1_2 w1_2

noncomputable def f1_slowest (i_askedMany : Int32) (i_y_way : Int32) (i_y_draw : Int32) (i_y_thrown : Int32) (i_o16_many : Int32) (a_o16_men : Nat → Int32) (a_beside : Nat → Int32) (q_y_men : Nat → Option Nat) (mi_hand : Nat → Int32) : Option (Int32) :=
  (whl (fun (s1 : Int32 × Int32) => f1_slowest_s1 i_askedMany i_y_way i_y_draw i_y_thrown i_o16_many a_o16_men a_beside q_y_men mi_hand s1.1 s1.2) FU ((0 : Int32), (1 : Int32))).bind fun rl1 =>
  f1_slowest_e1_0 rl1
set_option maxHeartbeats 4000000 in
theorem m1_slowest (l : Launch) (G : gG) (K : gK) (I : gI) (J : gJ) (X : gX) (A : gI) (B : gJ) (Q : gX) (o : Nat) (y : Nat) (sh_o : Sh K X o 0 rows0) (sh_y : Sh K X y 3 rows3) (sh_o16 : Sh K X (o + 16) 7 rows7) (x_o16_yard : X 701 (o + 16) = some y) (x_o_row : X 13 o = some (o + 16))  (i_askedMany : Int32) (i_y_way : Int32) (i_y_draw : Int32) (i_y_thrown : Int32) (i_o16_many : Int32) (a_o16_men : Nat → Int32) (a_beside : Nat → Int32) (q_y_men : Nat → Option Nat) (mi_hand : Nat → Int32) (e_i_askedMany : I 18 o = i_askedMany) (e_i_y_way : I 306 y = i_y_way) (e_i_y_draw : I 309 y = i_y_draw) (e_i_y_thrown : I 313 y = i_y_thrown) (e_i_o16_many : I 702 (o + 16) = i_o16_many) (e_a_o16_men : A (o + 17) = a_o16_men) (e_a_beside : A (o + 76) = a_beside) (e_q_y_men : Q (y + 1) = q_y_men) (e_mi_hand : I 1201 = mi_hand) (hman : ∀ (j m : Nat), q_y_men j = some m → K m = some (.inl 12)) (out : Int32) (hf : f1_slowest i_askedMany i_y_way i_y_draw i_y_thrown i_o16_many a_o16_men a_beside q_y_men mi_hand = some out) : GMet l yX1_slowest cX1_slowest 3 (some .int) (3) (64) G [.ref o] K I J X A B Q (some (.int out)) K I J X A B Q 0 0 := by
  refine GMet.of (y := yX1_slowest) rfl (Nat.le_of_ble_eq_true rfl) rfl ?_
  intro p e s m below meth c ls hx hb hr hml hlocks hts hown hname hG hR hl
  have hown : s.vm.findClass RX1 = some m.cls := hown
  have k_a_o16_men : K (o + 17) = some (.inr (0, 12)) := (sh_o16.2 0 _ rfl).1
  have k_a_beside : K (o + 76) = some (.inr (0, 12)) := (sh_o.2 11 _ rfl).1
  have k_q_y_men : K (y + 1) = some (.inr (4, 12)) := (sh_y.2 0 _ rfl).1
  have hR : RS G K I J X A B Q s.heap := hR.to rfl rfl rfl rfl rfl rfl
  have hS : va_S (gA G) s.heap s.heap [] := va_S.rf
  have hend : ∀ (pc : Nat) (H : Heap) (locs : List Loc) (ls : Array Slot), decode cX1_slowest pc = .ok (.ireturn, 1) → RS G K I J X A B Q H → va_S (gA G) s.heap H locs → W p l e ({ frames := 3, cells := 0, slots := 0, locals := 64 } : Room) s m ([.ref o] : List Value).toArray below meth c H locs 0 0 (MQ below (gQ G (some (.int out)) K I J X A B Q) ([.ref o] : List Value).toArray s 0 0 (gA G)) (F0 m pc ls [.int out]) := fun pc H locs ls hd hR hS => g_iret hx hb hr hlocks hG hR hS rfl hd
  generalize MQ below (gQ G (some (.int out)) K I J X A B Q) ([.ref o] : List Value).toArray s 0 0 (gA G) = Z at hend ⊢
  generalize ([.ref o] : List Value).toArray = args at hts hend ⊢
  unfold f1_slowest at hf
  refine lv_iconst (v := 0) hx hb dX1_slowest_0 li_0 ?_
  refine lv_istore_n (lv' := [(1, .int (0 : Int32)), (0, .ref o)]) hx hb dX1_slowest_1 rfl hl (by decide) rfl (fun ls hl => ?_)
  refine lv_iconst (v := 1) hx hb dX1_slowest_2 li_1 ?_
  refine lv_istore_n (lv' := [(2, .int (1 : Int32)), (1, .int (0 : Int32)), (0, .ref o)]) hx hb dX1_slowest_3 rfl hl (by decide) rfl (fun ls hl => ?_)
  obtain ⟨rl1, hw1, hfo1⟩ := bind_s hf
  have hx1_0 : ∀ (x1_0 : Int32), f1_slowest_e1_0 x1_0 = some out → ∀ (H : Heap) (locs : List Loc) (ls : Array Slot), RS G K I J X A B Q H → va_S (gA G) s.heap H locs → lv_has ls 3 [(0, .ref o), (1, .int x1_0)] → W p l e ({ frames := 3, cells := 0, slots := 0, locals := 64 } : Room) s m args below meth c H locs 0 0 Z (F0 m 33 ls []) := by
    intro x1_0 hf H locs ls hR hS hl
    unfold f1_slowest_e1_0 at hf
    refine lv_iload_n hx hb dX1_slowest_33 rfl (lv_at hl 1 rfl) ?_
    obtain rfl := some_i hf
    exact hend _ _ _ _ dX1_slowest_34 hR hS
  refine whl_walk (P := fun (s1 : Int32 × Int32) => ∀ (H : Heap) (locs : List Loc) (ls : Array Slot), RS G K I J X A B Q H → va_S (gA G) s.heap H locs → lv_has ls 3 [(0, .ref o), (1, .int s1.1), (2, .int s1.2)] → W p l e ({ frames := 3, cells := 0, slots := 0, locals := 64 } : Room) s m args below meth c H locs 0 0 Z (F0 m 4 ls [])) (r := rl1) ?_ FU _ hw1 _ _ _ hR hS (lv_sub hl [2, 1, 0] rfl)
  clear hR hS hl hf
  intro s1 o1 hf hk1 H locs ls hR hS hl
  obtain ⟨w1_1, w1_2⟩ := s1
  have hf : f1_slowest_s1 i_askedMany i_y_way i_y_draw i_y_thrown i_o16_many a_o16_men a_beside q_y_men mi_hand w1_1 w1_2 = some o1 := hf
  have hR : RS G K I J X A B Q H := hR
  have hl : lv_has ls 3 [(0, .ref o), (1, .int w1_1), (2, .int w1_2)] := hl
  unfold f1_slowest_s1 at hf
  refine lv_iload_n hx hb dX1_slowest_4 rfl (lv_at hl 2 rfl) ?_
  refine lv_aload_n hx hb dX1_slowest_5 rfl (lv_at hl 0 rfl) ?_
  refine n_geti (v := i_askedMany) hx hb hts hown hG hR gFi_X1_308_0 sh_o.1 e_i_askedMany dX1_slowest_6 ?_
  refine lv_icmp_ge (tgt := 33) hx hb dX1_slowest_9 (by decide) (fun c2 => ?_) (fun c2 => ?_)
  · have hf := ite_t c2 hf
    obtain rfl := some_i hf
    replace hk1 : _ = rl1 := hk1
    subst hk1
    exact hx1_0 w1_1 hfo1 _ _ _ hR hS (lv_sub hl [0, 1] rfl)
  · have hf := ite_f c2 hf
    refine lv_aload_n hx hb dX1_slowest_12 rfl (lv_at hl 0 rfl) ?_
    refine lv_iload_n hx hb dX1_slowest_13 rfl (lv_at hl 2 rfl) ?_
    obtain ⟨rr3, hrr3, hf⟩ := bind_s hf
    refine g0_cV (rm := (2, 43)) (As := [.int w1_2]) (rest := []) ⟨hx, hb, hml, hown, hts⟩ hG hR hS (m1_timeBy l G K I J X A B Q o y sh_o sh_y sh_o16 x_o16_yard x_o_row w1_2 i_y_way i_y_draw i_y_thrown i_o16_many a_o16_men a_beside q_y_men mi_hand e_i_y_way e_i_y_draw e_i_y_thrown e_i_o16_many e_a_o16_men e_a_beside e_q_y_men e_mi_hand hman rr3 hrr3) (cwV 1 hts gi_X1_397 rfl rfl rfl hd_X1_timeBy ⟨Nat.le_of_ble_eq_true rfl, Nat.le_of_ble_eq_true rfl⟩) sh_o.1 rfl rfl hl.1 (Nat.le_of_ble_eq_true rfl) dX1_slowest_14 ⟨Nat.le_refl _, Nat.le_refl _⟩ rfl (fun H locs hR hS => ?_)
    refine lv_aload_n hx hb dX1_slowest_17 rfl (lv_at hl 0 rfl) ?_
    refine lv_iload_n hx hb dX1_slowest_18 rfl (lv_at hl 1 rfl) ?_
    obtain ⟨rr4, hrr4, hf⟩ := bind_s hf
    refine g0_cV (rm := (2, 43)) (As := [.int w1_1]) (rest := [.int rr3]) ⟨hx, hb, hml, hown, hts⟩ hG hR hS (m1_timeBy l G K I J X A B Q o y sh_o sh_y sh_o16 x_o16_yard x_o_row w1_1 i_y_way i_y_draw i_y_thrown i_o16_many a_o16_men a_beside q_y_men mi_hand e_i_y_way e_i_y_draw e_i_y_thrown e_i_o16_many e_a_o16_men e_a_beside e_q_y_men e_mi_hand hman rr4 hrr4) (cwV 1 hts gi_X1_397 rfl rfl rfl hd_X1_timeBy ⟨Nat.le_of_ble_eq_true rfl, Nat.le_of_ble_eq_true rfl⟩) sh_o.1 rfl rfl hl.1 (Nat.le_of_ble_eq_true rfl) dX1_slowest_19 ⟨Nat.le_refl _, Nat.le_refl _⟩ rfl (fun H locs hR hS => ?_)
    have hj27 : ∀ (j27_1 : Int32), f1_slowest_j27 w1_2 j27_1 = some o1 → ∀ (H : Heap) (locs : List Loc) (ls : Array Slot), RS G K I J X A B Q H → va_S (gA G) s.heap H locs → lv_has ls 3 [(0, .ref o), (1, .int j27_1), (2, .int w1_2)] → W p l e ({ frames := 3, cells := 0, slots := 0, locals := 64 } : Room) s m args below meth c H locs 0 0 Z (F0 m 27 ls []) := by
      intro j27_1 hf H locs ls hR hS hl
      unfold f1_slowest_j27 at hf
      obtain ⟨v5, ev5, hf⟩ := lt_some hf
      refine lv_iinc (k := 2) (v := v5) (lv' := [(2, .int v5), (0, .ref o), (1, .int j27_1)]) hx hb dX1_slowest_27 hl rfl (by rw [ev5]; rfl) (by decide) rfl (fun ls hl => ?_)
      refine lv_goto (tgt := 4) hx hb dX1_slowest_30 (by decide) ?_
      obtain rfl := some_i hf
      exact hk1 _ _ _ hR hS (lv_sub hl [1, 2, 0] rfl)
    refine lv_icmp_le (tgt := 27) hx hb dX1_slowest_22 (by decide) (fun c6 => ?_) (fun c6 => ?_)
    · have hf := ite_t c6 hf
      exact hj27 w1_1 hf _ _ _ hR hS (lv_sub hl [0, 1, 2] rfl)
    · have hf := ite_f c6 hf
      refine lv_iload_n hx hb dX1_slowest_25 rfl (lv_at hl 2 rfl) ?_
      refine lv_istore_n (lv' := [(1, .int w1_2), (0, .ref o), (2, .int w1_2)]) hx hb dX1_slowest_26 rfl hl (by decide) rfl (fun ls hl => ?_)
      exact hj27 w1_2 hf _ _ _ hR hS (lv_sub hl [1, 0, 2] rfl)
noncomputable def f1_more_e8_0 (i_y_way : Int32) (i_y_draw : Int32) (i_y_thrown : Int32) (q_y_men : Nat → Option Nat) (mi_hand : Nat → Int32) (y : Nat) (rr1 : Int32 × Int32) (rr2 : Int32 × Int32 × (Nat → Int32)) (rr6 : Int32 × Int32 × Int32 × Int32 × Int32 × Int32 × Int32 × Int32 × Int32 × (Nat → Int32) × (Nat → Int32) × (Nat → Int32) × (Nat → Int32) × (Nat → Int32) × (Nat → Int32) × (Nat → Int32)) (x8_0 : (Nat → Int32)) : Option (Int32 × Int32 × Int32 × Int32 × Int32 × Int32 × Int32 × Int32 × Int32 × Int32 × Int32 × Int32 × Int32 × Int32 × (Option Nat) × (Nat → Int32) × (Nat → Int32) × (Nat → Int32) × (Nat → Int32) × (Nat → Int32) × (Nat → Int32) × (Nat → Int32) × (Nat → Int32) × (Nat → Int32)) :=
  (f1_slowest rr2.2.1 i_y_way i_y_draw i_y_thrown rr6.1 rr6.2.2.2.2.2.2.2.2.2.1 x8_0 q_y_men mi_hand).bind fun rr9 =>
  (f1_timeBy rr9 i_y_way i_y_draw i_y_thrown rr6.1 rr6.2.2.2.2.2.2.2.2.2.1 x8_0 q_y_men mi_hand).bind fun rr10 =>
  some (rr10, rr1.1, rr1.2, rr2.2.1, rr2.2.1, rr6.1, rr6.2.1, rr6.2.2.1, rr6.2.2.2.1, rr6.2.2.2.2.1, rr6.2.2.2.2.2.1, rr6.2.2.2.2.2.2.1, rr6.2.2.2.2.2.2.2.1, rr6.2.2.2.2.2.2.2.2.1, (some y), rr6.2.2.2.2.2.2.2.2.2.1, rr6.2.2.2.2.2.2.2.2.2.2.1, rr6.2.2.2.2.2.2.2.2.2.2.2.1, rr6.2.2.2.2.2.2.2.2.2.2.2.2.1, rr6.2.2.2.2.2.2.2.2.2.2.2.2.2.1, rr6.2.2.2.2.2.2.2.2.2.2.2.2.2.2.1, rr6.2.2.2.2.2.2.2.2.2.2.2.2.2.2.2, rr2.2.2, x8_0)

noncomputable def f1_more_s8 (p1 : Int32) (i_y_way : Int32) (i_y_draw : Int32) (i_y_thrown : Int32) (q_y_men : Nat → Option Nat) (mi_hand : Nat → Int32) (rr2 : Int32 × Int32 × (Nat → Int32)) (rr6 : Int32 × Int32 × Int32 × Int32 × Int32 × Int32 × Int32 × Int32 × Int32 × (Nat → Int32) × (Nat → Int32) × (Nat → Int32) × (Nat → Int32) × (Nat → Int32) × (Nat → Int32) × (Nat → Int32)) (w8_2 : Int32) (w8_a_beside : Nat → Int32) : Option ((Int32 × (Nat → Int32)) ⊕ ((Nat → Int32))) :=
  if p1 ≤ w8_2 then
    some (.inr w8_a_beside)
  else
    (f1_slowest rr2.2.1 i_y_way i_y_draw i_y_thrown rr6.1 rr6.2.2.2.2.2.2.2.2.2.1 w8_a_beside q_y_men mi_hand).bind fun rr12 =>
    gd (inb rr12 12) <|
    lt (w8_a_beside rr12.toNatClampNeg) fun v14 =>
    lt (v14 + (1 : Int32)) fun v15 =>
    gd (inb rr12 12) <|
    lt (upd w8_a_beside rr12.toNatClampNeg v15) fun u17 =>
    lt (w8_2 + (1 : Int32)) fun v18 =>
    some (.inl (v18, u17))

noncomputable def f1_more_e7_0 (p1 : Int32) (i_y_way : Int32) (i_y_draw : Int32) (i_y_thrown : Int32) (q_y_men : Nat → Option Nat) (mi_hand : Nat → Int32) (y : Nat) (rr1 : Int32 × Int32) (rr2 : Int32 × Int32 × (Nat → Int32)) (rr6 : Int32 × Int32 × Int32 × Int32 × Int32 × Int32 × Int32 × Int32 × Int32 × (Nat → Int32) × (Nat → Int32) × (Nat → Int32) × (Nat → Int32) × (Nat → Int32) × (Nat → Int32) × (Nat → Int32)) (x7_0 : (Nat → Int32)) : Option (Int32 × Int32 × Int32 × Int32 × Int32 × Int32 × Int32 × Int32 × Int32 × Int32 × Int32 × Int32 × Int32 × Int32 × (Option Nat) × (Nat → Int32) × (Nat → Int32) × (Nat → Int32) × (Nat → Int32) × (Nat → Int32) × (Nat → Int32) × (Nat → Int32) × (Nat → Int32) × (Nat → Int32)) :=
  (whl (fun (s8 : Int32 × (Nat → Int32)) => f1_more_s8 p1 i_y_way i_y_draw i_y_thrown q_y_men mi_hand rr2 rr6 s8.1 s8.2) FU ((0 : Int32), x7_0)).bind fun rl8 =>
  f1_more_e8_0 i_y_way i_y_draw i_y_thrown q_y_men mi_hand y rr1 rr2 rr6 rl8

noncomputable def f1_more_s7 (w7_2 : Int32) (w7_a_beside : Nat → Int32) : Option ((Int32 × (Nat → Int32)) ⊕ ((Nat → Int32))) :=
  if (12 : Int32) ≤ w7_2 then
    some (.inr w7_a_beside)
  else
    gd (inb w7_2 12) <|
    lt (upd w7_a_beside w7_2.toNatClampNeg (0 : Int32)) fun u21 =>
    lt (w7_2 + (1 : Int32)) fun v22 =>
    some (.inl (v22, u21))

noncomputable def f1_more (p1 : Int32) (y : Nat) (i_length : Int32) (i_size : Int32) (i_askedMany : Int32) (i_besideMany : Int32) (i_y_manMany : Int32) (i_y_way : Int32) (i_y_pails : Int32) (i_y_draw : Int32) (i_y_thrown : Int32) (i_o16_many : Int32) (i_o16_water : Int32) (i_o16_thrown : Int32) (i_o16_tick : Int32) (i_o16_empties : Int32) (i_o16_backFirst : Int32) (i_o16_backMany : Int32) (i_o16_drawn : Int32) (i_o16_spilt : Int32) (x0_o16_yard : Option Nat) (a_tape : Nat → Int32) (a_o16_men : Nat → Int32) (a_o16_done : Nat → Int32) (a_o16_busy : Nat → Int32) (a_o16_litres : Nat → Int32) (a_o16_stands : Nat → Int32) (a_o16_first : Nat → Int32) (a_o16_heaps : Nat → Int32) (a_asked : Nat → Int32) (a_beside : Nat → Int32) (q_y_men : Nat → Option Nat) (mi_hand : Nat → Int32) : Option (Int32 × Int32 × Int32 × Int32 × Int32 × Int32 × Int32 × Int32 × Int32 × Int32 × Int32 × Int32 × Int32 × Int32 × (Option Nat) × (Nat → Int32) × (Nat → Int32) × (Nat → Int32) × (Nat → Int32) × (Nat → Int32) × (Nat → Int32) × (Nat → Int32) × (Nat → Int32) × (Nat → Int32)) :=
  (f1_taken i_length i_size).bind fun rr1 =>
  (f1_areAsked (2 : Int32) (12 : Int32) rr1.2 i_askedMany i_y_manMany a_tape a_asked).bind fun rr2 =>
  if rr2.1 = 0 then
    some ((-1 : Int32), rr1.1, rr1.2, rr2.2.1, i_besideMany, i_o16_many, i_o16_water, i_o16_thrown, i_o16_tick, i_o16_empties, i_o16_backFirst, i_o16_backMany, i_o16_drawn, i_o16_spilt, x0_o16_yard, a_o16_men, a_o16_done, a_o16_busy, a_o16_litres, a_o16_stands, a_o16_first, a_o16_heaps, rr2.2.2, a_beside)
  else
    (f1_isIn p1 (0 : Int32) (9 : Int32)).bind fun rr4 =>
    if rr4 = 0 then
      some ((-1 : Int32), rr1.1, rr1.2, rr2.2.1, i_besideMany, i_o16_many, i_o16_water, i_o16_thrown, i_o16_tick, i_o16_empties, i_o16_backFirst, i_o16_backMany, i_o16_drawn, i_o16_spilt, x0_o16_yard, a_o16_men, a_o16_done, a_o16_busy, a_o16_litres, a_o16_stands, a_o16_first, a_o16_heaps, rr2.2.2, a_beside)
    else
      (f10_begin rr2.2.1 (0 : Int32) 12 i_y_pails i_o16_many i_o16_water i_o16_thrown i_o16_tick i_o16_empties i_o16_backFirst i_o16_backMany i_o16_drawn i_o16_spilt a_o16_men a_o16_done a_o16_busy a_o16_litres a_o16_stands a_o16_first a_o16_heaps rr2.2.2).bind fun rr6 =>
      (whl (fun (s7 : Int32 × (Nat → Int32)) => f1_more_s7 s7.1 s7.2) FU ((0 : Int32), a_beside)).bind fun rl7 =>
      f1_more_e7_0 p1 i_y_way i_y_draw i_y_thrown q_y_men mi_hand y rr1 rr2 rr6 rl7
set_option maxHeartbeats 4000000 in
theorem m1_more (l : Launch) (G : gG) (K : gK) (I : gI) (J : gJ) (X : gX) (A : gI) (B : gJ) (Q : gX) (o : Nat) (y : Nat) (sh_o : Sh K X o 0 rows0) (sh_y : Sh K X y 3 rows3) (sh_o7 : K (o + 7) = some (.inl 2)) (sh_o16 : Sh K X (o + 16) 7 rows7) (x_o7_yard : X 200 (o + 7) = some y) (x_o_now : X 9 o = some (o + 7)) (x_o_row : X 13 o = some (o + 16)) (p1 : Int32) (i_length : Int32) (i_size : Int32) (i_askedMany : Int32) (i_besideMany : Int32) (i_y_manMany : Int32) (i_y_way : Int32) (i_y_pails : Int32) (i_y_draw : Int32) (i_y_thrown : Int32) (i_o16_many : Int32) (i_o16_water : Int32) (i_o16_thrown : Int32) (i_o16_tick : Int32) (i_o16_empties : Int32) (i_o16_backFirst : Int32) (i_o16_backMany : Int32) (i_o16_drawn : Int32) (i_o16_spilt : Int32) (x0_o16_yard : Option Nat) (a_tape : Nat → Int32) (a_o16_men : Nat → Int32) (a_o16_done : Nat → Int32) (a_o16_busy : Nat → Int32) (a_o16_litres : Nat → Int32) (a_o16_stands : Nat → Int32) (a_o16_first : Nat → Int32) (a_o16_heaps : Nat → Int32) (a_asked : Nat → Int32) (a_beside : Nat → Int32) (q_y_men : Nat → Option Nat) (mi_hand : Nat → Int32) (e_i_length : I 1 o = i_length) (e_i_size : I 2 o = i_size) (e_i_askedMany : I 18 o = i_askedMany) (e_i_besideMany : I 29 o = i_besideMany) (e_i_y_manMany : I 303 y = i_y_manMany) (e_i_y_way : I 306 y = i_y_way) (e_i_y_pails : I 307 y = i_y_pails) (e_i_y_draw : I 309 y = i_y_draw) (e_i_y_thrown : I 313 y = i_y_thrown) (e_i_o16_many : I 702 (o + 16) = i_o16_many) (e_i_o16_water : I 703 (o + 16) = i_o16_water) (e_i_o16_thrown : I 704 (o + 16) = i_o16_thrown) (e_i_o16_tick : I 705 (o + 16) = i_o16_tick) (e_i_o16_empties : I 714 (o + 16) = i_o16_empties) (e_i_o16_backFirst : I 715 (o + 16) = i_o16_backFirst) (e_i_o16_backMany : I 716 (o + 16) = i_o16_backMany) (e_i_o16_drawn : I 717 (o + 16) = i_o16_drawn) (e_i_o16_spilt : I 718 (o + 16) = i_o16_spilt) (e_x0_o16_yard : X 701 (o + 16) = x0_o16_yard) (e_a_tape : A (o + 1) = a_tape) (e_a_o16_men : A (o + 17) = a_o16_men) (e_a_o16_done : A (o + 18) = a_o16_done) (e_a_o16_busy : A (o + 19) = a_o16_busy) (e_a_o16_litres : A (o + 20) = a_o16_litres) (e_a_o16_stands : A (o + 21) = a_o16_stands) (e_a_o16_first : A (o + 22) = a_o16_first) (e_a_o16_heaps : A (o + 23) = a_o16_heaps) (e_a_asked : A (o + 70) = a_asked) (e_a_beside : A (o + 76) = a_beside) (e_q_y_men : Q (y + 1) = q_y_men) (e_mi_hand : I 1201 = mi_hand) (hman : ∀ (j m : Nat), q_y_men j = some m → K m = some (.inl 12)) (out : Int32 × Int32 × Int32 × Int32 × Int32 × Int32 × Int32 × Int32 × Int32 × Int32 × Int32 × Int32 × Int32 × Int32 × (Option Nat) × (Nat → Int32) × (Nat → Int32) × (Nat → Int32) × (Nat → Int32) × (Nat → Int32) × (Nat → Int32) × (Nat → Int32) × (Nat → Int32) × (Nat → Int32)) (hf : f1_more p1 y i_length i_size i_askedMany i_besideMany i_y_manMany i_y_way i_y_pails i_y_draw i_y_thrown i_o16_many i_o16_water i_o16_thrown i_o16_tick i_o16_empties i_o16_backFirst i_o16_backMany i_o16_drawn i_o16_spilt x0_o16_yard a_tape a_o16_men a_o16_done a_o16_busy a_o16_litres a_o16_stands a_o16_first a_o16_heaps a_asked a_beside q_y_men mi_hand = some out) : GMet l yX1_more cX1_more 3 (some .int) (4) (86) G [.ref o, .int p1] K I J X A B Q (some (.int out.1)) K (ov I [(1, o, out.2.1), (2, o, out.2.2.1), (18, o, out.2.2.2.1), (29, o, out.2.2.2.2.1), (702, (o + 16), out.2.2.2.2.2.1), (703, (o + 16), out.2.2.2.2.2.2.1), (704, (o + 16), out.2.2.2.2.2.2.2.1), (705, (o + 16), out.2.2.2.2.2.2.2.2.1), (714, (o + 16), out.2.2.2.2.2.2.2.2.2.1), (715, (o + 16), out.2.2.2.2.2.2.2.2.2.2.1), (716, (o + 16), out.2.2.2.2.2.2.2.2.2.2.2.1), (717, (o + 16), out.2.2.2.2.2.2.2.2.2.2.2.2.1), (718, (o + 16), out.2.2.2.2.2.2.2.2.2.2.2.2.2.1)]) J (ov X [(701, (o + 16), out.2.2.2.2.2.2.2.2.2.2.2.2.2.2.1)]) (ova A [((o + 1), a_tape), ((o + 17), out.2.2.2.2.2.2.2.2.2.2.2.2.2.2.2.1), ((o + 18), out.2.2.2.2.2.2.2.2.2.2.2.2.2.2.2.2.1), ((o + 19), out.2.2.2.2.2.2.2.2.2.2.2.2.2.2.2.2.2.1), ((o + 20), out.2.2.2.2.2.2.2.2.2.2.2.2.2.2.2.2.2.2.1), ((o + 21), out.2.2.2.2.2.2.2.2.2.2.2.2.2.2.2.2.2.2.2.1), ((o + 22), out.2.2.2.2.2.2.2.2.2.2.2.2.2.2.2.2.2.2.2.2.1), ((o + 23), out.2.2.2.2.2.2.2.2.2.2.2.2.2.2.2.2.2.2.2.2.2.1), ((o + 70), out.2.2.2.2.2.2.2.2.2.2.2.2.2.2.2.2.2.2.2.2.2.2.1), ((o + 76), out.2.2.2.2.2.2.2.2.2.2.2.2.2.2.2.2.2.2.2.2.2.2.2)]) B Q 0 0 := by
  refine GMet.of (y := yX1_more) rfl (Nat.le_of_ble_eq_true rfl) rfl ?_
  intro p e s m below meth c ls hx hb hr hml hlocks hts hown hname hG hR hl
  have hown : s.vm.findClass RX1 = some m.cls := hown
  have k_a_tape : K (o + 1) = some (.inr (2, 740)) := (sh_o.2 0 _ rfl).1
  have k_a_o16_men : K (o + 17) = some (.inr (0, 12)) := (sh_o16.2 0 _ rfl).1
  have k_a_o16_done : K (o + 18) = some (.inr (0, 12)) := (sh_o16.2 1 _ rfl).1
  have k_a_o16_busy : K (o + 19) = some (.inr (0, 12)) := (sh_o16.2 2 _ rfl).1
  have k_a_o16_litres : K (o + 20) = some (.inr (0, 12)) := (sh_o16.2 3 _ rfl).1
  have k_a_o16_stands : K (o + 21) = some (.inr (0, 12)) := (sh_o16.2 4 _ rfl).1
  have k_a_o16_first : K (o + 22) = some (.inr (0, 12)) := (sh_o16.2 5 _ rfl).1
  have k_a_o16_heaps : K (o + 23) = some (.inr (0, 12)) := (sh_o16.2 6 _ rfl).1
  have k_a_asked : K (o + 70) = some (.inr (0, 12)) := (sh_o.2 5 _ rfl).1
  have k_a_beside : K (o + 76) = some (.inr (0, 12)) := (sh_o.2 11 _ rfl).1
  have k_q_y_men : K (y + 1) = some (.inr (4, 12)) := (sh_y.2 0 _ rfl).1
  have hN_A : nda [(o + 1), (o + 17), (o + 18), (o + 19), (o + 20), (o + 21), (o + 22), (o + 23), (o + 70), (o + 76)] := nd_off o [1, 17, 18, 19, 20, 21, 22, 23, 70, 76] rfl
  have hR : RS G K (ov I [(1, o, i_length), (2, o, i_size), (18, o, i_askedMany), (29, o, i_besideMany), (702, (o + 16), i_o16_many), (703, (o + 16), i_o16_water), (704, (o + 16), i_o16_thrown), (705, (o + 16), i_o16_tick), (714, (o + 16), i_o16_empties), (715, (o + 16), i_o16_backFirst), (716, (o + 16), i_o16_backMany), (717, (o + 16), i_o16_drawn), (718, (o + 16), i_o16_spilt)]) J (ov X [(701, (o + 16), x0_o16_yard)]) (ova A [((o + 1), a_tape), ((o + 17), a_o16_men), ((o + 18), a_o16_done), ((o + 19), a_o16_busy), ((o + 20), a_o16_litres), ((o + 21), a_o16_stands), ((o + 22), a_o16_first), ((o + 23), a_o16_heaps), ((o + 70), a_asked), ((o + 76), a_beside)]) B Q s.heap := hR.to (Eq.symm (ov_sc e_i_length (ov_sc e_i_size (ov_sc e_i_askedMany (ov_sc e_i_besideMany (ov_sc e_i_o16_many (ov_sc e_i_o16_water (ov_sc e_i_o16_thrown (ov_sc e_i_o16_tick (ov_sc e_i_o16_empties (ov_sc e_i_o16_backFirst (ov_sc e_i_o16_backMany (ov_sc e_i_o16_drawn (ov_sc e_i_o16_spilt rfl)))))))))))))) rfl (Eq.symm (ov_sc e_x0_o16_yard rfl)) (Eq.symm (ova_sc e_a_tape (ova_sc e_a_o16_men (ova_sc e_a_o16_done (ova_sc e_a_o16_busy (ova_sc e_a_o16_litres (ova_sc e_a_o16_stands (ova_sc e_a_o16_first (ova_sc e_a_o16_heaps (ova_sc e_a_asked (ova_sc e_a_beside rfl))))))))))) rfl rfl
  have hS : va_S (gA G) s.heap s.heap [] := va_S.rf
  have hend : ∀ (pc : Nat) (H : Heap) (locs : List Loc) (ls : Array Slot), decode cX1_more pc = .ok (.ireturn, 1) → RS G K (ov I [(1, o, out.2.1), (2, o, out.2.2.1), (18, o, out.2.2.2.1), (29, o, out.2.2.2.2.1), (702, (o + 16), out.2.2.2.2.2.1), (703, (o + 16), out.2.2.2.2.2.2.1), (704, (o + 16), out.2.2.2.2.2.2.2.1), (705, (o + 16), out.2.2.2.2.2.2.2.2.1), (714, (o + 16), out.2.2.2.2.2.2.2.2.2.1), (715, (o + 16), out.2.2.2.2.2.2.2.2.2.2.1), (716, (o + 16), out.2.2.2.2.2.2.2.2.2.2.2.1), (717, (o + 16), out.2.2.2.2.2.2.2.2.2.2.2.2.1), (718, (o + 16), out.2.2.2.2.2.2.2.2.2.2.2.2.2.1)]) J (ov X [(701, (o + 16), out.2.2.2.2.2.2.2.2.2.2.2.2.2.2.1)]) (ova A [((o + 1), a_tape), ((o + 17), out.2.2.2.2.2.2.2.2.2.2.2.2.2.2.2.1), ((o + 18), out.2.2.2.2.2.2.2.2.2.2.2.2.2.2.2.2.1), ((o + 19), out.2.2.2.2.2.2.2.2.2.2.2.2.2.2.2.2.2.1), ((o + 20), out.2.2.2.2.2.2.2.2.2.2.2.2.2.2.2.2.2.2.1), ((o + 21), out.2.2.2.2.2.2.2.2.2.2.2.2.2.2.2.2.2.2.2.1), ((o + 22), out.2.2.2.2.2.2.2.2.2.2.2.2.2.2.2.2.2.2.2.2.1), ((o + 23), out.2.2.2.2.2.2.2.2.2.2.2.2.2.2.2.2.2.2.2.2.2.1), ((o + 70), out.2.2.2.2.2.2.2.2.2.2.2.2.2.2.2.2.2.2.2.2.2.2.1), ((o + 76), out.2.2.2.2.2.2.2.2.2.2.2.2.2.2.2.2.2.2.2.2.2.2.2)]) B Q H → va_S (gA G) s.heap H locs → W p l e ({ frames := 4, cells := 0, slots := 0, locals := 86 } : Room) s m ([.ref o, .int p1] : List Value).toArray below meth c H locs 0 0 (MQ below (gQ G (some (.int out.1)) K (ov I [(1, o, out.2.1), (2, o, out.2.2.1), (18, o, out.2.2.2.1), (29, o, out.2.2.2.2.1), (702, (o + 16), out.2.2.2.2.2.1), (703, (o + 16), out.2.2.2.2.2.2.1), (704, (o + 16), out.2.2.2.2.2.2.2.1), (705, (o + 16), out.2.2.2.2.2.2.2.2.1), (714, (o + 16), out.2.2.2.2.2.2.2.2.2.1), (715, (o + 16), out.2.2.2.2.2.2.2.2.2.2.1), (716, (o + 16), out.2.2.2.2.2.2.2.2.2.2.2.1), (717, (o + 16), out.2.2.2.2.2.2.2.2.2.2.2.2.1), (718, (o + 16), out.2.2.2.2.2.2.2.2.2.2.2.2.2.1)]) J (ov X [(701, (o + 16), out.2.2.2.2.2.2.2.2.2.2.2.2.2.2.1)]) (ova A [((o + 1), a_tape), ((o + 17), out.2.2.2.2.2.2.2.2.2.2.2.2.2.2.2.1), ((o + 18), out.2.2.2.2.2.2.2.2.2.2.2.2.2.2.2.2.1), ((o + 19), out.2.2.2.2.2.2.2.2.2.2.2.2.2.2.2.2.2.1), ((o + 20), out.2.2.2.2.2.2.2.2.2.2.2.2.2.2.2.2.2.2.1), ((o + 21), out.2.2.2.2.2.2.2.2.2.2.2.2.2.2.2.2.2.2.2.1), ((o + 22), out.2.2.2.2.2.2.2.2.2.2.2.2.2.2.2.2.2.2.2.2.1), ((o + 23), out.2.2.2.2.2.2.2.2.2.2.2.2.2.2.2.2.2.2.2.2.2.1), ((o + 70), out.2.2.2.2.2.2.2.2.2.2.2.2.2.2.2.2.2.2.2.2.2.2.1), ((o + 76), out.2.2.2.2.2.2.2.2.2.2.2.2.2.2.2.2.2.2.2.2.2.2.2)]) B Q) ([.ref o, .int p1] : List Value).toArray s 0 0 (gA G)) (F0 m pc ls [.int out.1]) := fun pc H locs ls hd hR hS => g_iret hx hb hr hlocks hG hR hS rfl hd
  generalize MQ below (gQ G (some (.int out.1)) K (ov I [(1, o, out.2.1), (2, o, out.2.2.1), (18, o, out.2.2.2.1), (29, o, out.2.2.2.2.1), (702, (o + 16), out.2.2.2.2.2.1), (703, (o + 16), out.2.2.2.2.2.2.1), (704, (o + 16), out.2.2.2.2.2.2.2.1), (705, (o + 16), out.2.2.2.2.2.2.2.2.1), (714, (o + 16), out.2.2.2.2.2.2.2.2.2.1), (715, (o + 16), out.2.2.2.2.2.2.2.2.2.2.1), (716, (o + 16), out.2.2.2.2.2.2.2.2.2.2.2.1), (717, (o + 16), out.2.2.2.2.2.2.2.2.2.2.2.2.1), (718, (o + 16), out.2.2.2.2.2.2.2.2.2.2.2.2.2.1)]) J (ov X [(701, (o + 16), out.2.2.2.2.2.2.2.2.2.2.2.2.2.2.1)]) (ova A [((o + 1), a_tape), ((o + 17), out.2.2.2.2.2.2.2.2.2.2.2.2.2.2.2.1), ((o + 18), out.2.2.2.2.2.2.2.2.2.2.2.2.2.2.2.2.1), ((o + 19), out.2.2.2.2.2.2.2.2.2.2.2.2.2.2.2.2.2.1), ((o + 20), out.2.2.2.2.2.2.2.2.2.2.2.2.2.2.2.2.2.2.1), ((o + 21), out.2.2.2.2.2.2.2.2.2.2.2.2.2.2.2.2.2.2.2.1), ((o + 22), out.2.2.2.2.2.2.2.2.2.2.2.2.2.2.2.2.2.2.2.2.1), ((o + 23), out.2.2.2.2.2.2.2.2.2.2.2.2.2.2.2.2.2.2.2.2.2.1), ((o + 70), out.2.2.2.2.2.2.2.2.2.2.2.2.2.2.2.2.2.2.2.2.2.2.1), ((o + 76), out.2.2.2.2.2.2.2.2.2.2.2.2.2.2.2.2.2.2.2.2.2.2.2)]) B Q) ([.ref o, .int p1] : List Value).toArray s 0 0 (gA G) = Z at hend ⊢
  generalize ([.ref o, .int p1] : List Value).toArray = args at hts hend ⊢
  unfold f1_more at hf
  refine lv_aload_n hx hb dX1_more_0 rfl (lv_at hl 0 rfl) ?_
  obtain ⟨rr1, hrr1, hf⟩ := bind_s hf
  refine g0_cVv (rm := (0, 0)) (As := []) (rest := []) ⟨hx, hb, hml, hown, hts⟩ hG hR hS (m1_taken l G K (ov I [(1, o, i_length), (2, o, i_size), (18, o, i_askedMany), (29, o, i_besideMany), (702, (o + 16), i_o16_many), (703, (o + 16), i_o16_water), (704, (o + 16), i_o16_thrown), (705, (o + 16), i_o16_tick), (714, (o + 16), i_o16_empties), (715, (o + 16), i_o16_backFirst), (716, (o + 16), i_o16_backMany), (717, (o + 16), i_o16_drawn), (718, (o + 16), i_o16_spilt)]) J (ov X [(701, (o + 16), x0_o16_yard)]) (ova A [((o + 1), a_tape), ((o + 17), a_o16_men), ((o + 18), a_o16_done), ((o + 19), a_o16_busy), ((o + 20), a_o16_litres), ((o + 21), a_o16_stands), ((o + 22), a_o16_first), ((o + 23), a_o16_heaps), ((o + 70), a_asked), ((o + 76), a_beside)]) B Q o (Sh.ov rfl sh_o) i_length i_size (ov_get 0 rfl rfl) (ov_get 1 rfl rfl) rr1 hrr1) (cwV 0 hts gi_X1_228 rfl rfl rfl hd_X1_taken ⟨Nat.le_of_ble_eq_true rfl, Nat.le_of_ble_eq_true rfl⟩) sh_o.1 rfl rfl hl.1 (Nat.le_of_ble_eq_true rfl) dX1_more_1 ⟨Nat.le_refl _, Nat.le_refl _⟩ rfl (fun H locs hR hS => ?_)
  have hR : RS G K (ov I [(1, o, rr1.1), (2, o, rr1.2), (18, o, i_askedMany), (29, o, i_besideMany), (702, (o + 16), i_o16_many), (703, (o + 16), i_o16_water), (704, (o + 16), i_o16_thrown), (705, (o + 16), i_o16_tick), (714, (o + 16), i_o16_empties), (715, (o + 16), i_o16_backFirst), (716, (o + 16), i_o16_backMany), (717, (o + 16), i_o16_drawn), (718, (o + 16), i_o16_spilt)]) J (ov X [(701, (o + 16), x0_o16_yard)]) (ova A [((o + 1), a_tape), ((o + 17), a_o16_men), ((o + 18), a_o16_done), ((o + 19), a_o16_busy), ((o + 20), a_o16_litres), ((o + 21), a_o16_stands), ((o + 22), a_o16_first), ((o + 23), a_o16_heaps), ((o + 70), a_asked), ((o + 76), a_beside)]) B Q H := hR.to (ov_merge (l := [(1, o, i_length), (2, o, i_size), (18, o, i_askedMany), (29, o, i_besideMany), (702, (o + 16), i_o16_many), (703, (o + 16), i_o16_water), (704, (o + 16), i_o16_thrown), (705, (o + 16), i_o16_tick), (714, (o + 16), i_o16_empties), (715, (o + 16), i_o16_backFirst), (716, (o + 16), i_o16_backMany), (717, (o + 16), i_o16_drawn), (718, (o + 16), i_o16_spilt)]) rfl [0, 1] [(1, o, rr1.1), (2, o, rr1.2)] rfl rfl) rfl rfl rfl rfl rfl
  refine lv_aload_n hx hb dX1_more_4 rfl (lv_at hl 0 rfl) ?_
  refine lv_iconst (v := 2) hx hb dX1_more_5 li_2 ?_
  refine lv_bipush (v := 12) hx hb dX1_more_6 lb_12 ?_
  refine lv_aload_n hx hb dX1_more_8 rfl (lv_at hl 0 rfl) ?_
  refine n_geti (v := rr1.2) hx hb hts hown hG hR gFi_X1_222_0 sh_o.1 (ov_get 1 rfl rfl) dX1_more_9 ?_
  obtain ⟨rr2, hrr2, hf⟩ := bind_s hf
  refine g0_cV (rm := (2, 43)) (As := [.int (2 : Int32), .int (12 : Int32), .int rr1.2]) (rest := []) ⟨hx, hb, hml, hown, hts⟩ hG hR hS (m1_areAsked l G K (ov I [(1, o, rr1.1), (2, o, rr1.2), (18, o, i_askedMany), (29, o, i_besideMany), (702, (o + 16), i_o16_many), (703, (o + 16), i_o16_water), (704, (o + 16), i_o16_thrown), (705, (o + 16), i_o16_tick), (714, (o + 16), i_o16_empties), (715, (o + 16), i_o16_backFirst), (716, (o + 16), i_o16_backMany), (717, (o + 16), i_o16_drawn), (718, (o + 16), i_o16_spilt)]) J (ov X [(701, (o + 16), x0_o16_yard)]) (ova A [((o + 1), a_tape), ((o + 17), a_o16_men), ((o + 18), a_o16_done), ((o + 19), a_o16_busy), ((o + 20), a_o16_litres), ((o + 21), a_o16_stands), ((o + 22), a_o16_first), ((o + 23), a_o16_heaps), ((o + 70), a_asked), ((o + 76), a_beside)]) B Q o y (Sh.ov rfl sh_o) (Sh.ov rfl sh_y) sh_o7 ((congrFun (ov_no rfl) _).trans x_o7_yard) ((congrFun (ov_no rfl) _).trans x_o_now) (2 : Int32) (12 : Int32) rr1.2 i_askedMany i_y_manMany a_tape a_asked (ov_get 2 rfl rfl) ((congrFun (ov_no rfl) _).trans e_i_y_manMany) (ova_get 0 hN_A rfl) (ova_get 8 hN_A rfl) rr2 hrr2) (cwV 3 hts gi_X1_315 rfl rfl rfl hd_X1_areAsked ⟨Nat.le_of_ble_eq_true rfl, Nat.le_of_ble_eq_true rfl⟩) sh_o.1 rfl rfl hl.1 (Nat.le_of_ble_eq_true rfl) dX1_more_12 ⟨Nat.le_refl _, Nat.le_refl _⟩ rfl (fun H locs hR hS => ?_)
  have hR : RS G K (ov I [(1, o, rr1.1), (2, o, rr1.2), (18, o, rr2.2.1), (29, o, i_besideMany), (702, (o + 16), i_o16_many), (703, (o + 16), i_o16_water), (704, (o + 16), i_o16_thrown), (705, (o + 16), i_o16_tick), (714, (o + 16), i_o16_empties), (715, (o + 16), i_o16_backFirst), (716, (o + 16), i_o16_backMany), (717, (o + 16), i_o16_drawn), (718, (o + 16), i_o16_spilt)]) J (ov X [(701, (o + 16), x0_o16_yard)]) (ova A [((o + 1), a_tape), ((o + 17), a_o16_men), ((o + 18), a_o16_done), ((o + 19), a_o16_busy), ((o + 20), a_o16_litres), ((o + 21), a_o16_stands), ((o + 22), a_o16_first), ((o + 23), a_o16_heaps), ((o + 70), rr2.2.2), ((o + 76), a_beside)]) B Q H := hR.to (ov_merge (l := [(1, o, rr1.1), (2, o, rr1.2), (18, o, i_askedMany), (29, o, i_besideMany), (702, (o + 16), i_o16_many), (703, (o + 16), i_o16_water), (704, (o + 16), i_o16_thrown), (705, (o + 16), i_o16_tick), (714, (o + 16), i_o16_empties), (715, (o + 16), i_o16_backFirst), (716, (o + 16), i_o16_backMany), (717, (o + 16), i_o16_drawn), (718, (o + 16), i_o16_spilt)]) rfl [2] [(18, o, rr2.2.1)] rfl rfl) rfl rfl (ova_merge (l := [((o + 1), a_tape), ((o + 17), a_o16_men), ((o + 18), a_o16_done), ((o + 19), a_o16_busy), ((o + 20), a_o16_litres), ((o + 21), a_o16_stands), ((o + 22), a_o16_first), ((o + 23), a_o16_heaps), ((o + 70), a_asked), ((o + 76), a_beside)]) hN_A [0, 8] [((o + 1), a_tape), ((o + 70), rr2.2.2)] rfl rfl) rfl rfl
  refine lv_if_eq (tgt := 28) hx hb dX1_more_15 (by decide) (fun c3 => ?_) (fun c3 => ?_)
  · have hf := ite_t c3 hf
    refine lv_iconst (v := -1) hx hb dX1_more_28 li_m1 ?_
    obtain rfl := some_i hf
    exact hend _ _ _ _ dX1_more_29 hR hS
  · have hf := ite_f c3 hf
    refine lv_iload_n hx hb dX1_more_18 rfl (lv_at hl 1 rfl) ?_
    refine lv_iconst (v := 0) hx hb dX1_more_19 li_0 ?_
    refine lv_bipush (v := 9) hx hb dX1_more_20 lb_9 ?_
    obtain ⟨rr4, hrr4, hf⟩ := bind_s hf
    refine g0_cS (rm := (0, 0)) (As := [.int p1, .int (0 : Int32), .int (9 : Int32)]) (rest := []) ⟨hx, hb, hml, hown, hts⟩ hG hR hS (m1_isIn l G K (ov I [(1, o, rr1.1), (2, o, rr1.2), (18, o, rr2.2.1), (29, o, i_besideMany), (702, (o + 16), i_o16_many), (703, (o + 16), i_o16_water), (704, (o + 16), i_o16_thrown), (705, (o + 16), i_o16_tick), (714, (o + 16), i_o16_empties), (715, (o + 16), i_o16_backFirst), (716, (o + 16), i_o16_backMany), (717, (o + 16), i_o16_drawn), (718, (o + 16), i_o16_spilt)]) J (ov X [(701, (o + 16), x0_o16_yard)]) (ova A [((o + 1), a_tape), ((o + 17), a_o16_men), ((o + 18), a_o16_done), ((o + 19), a_o16_busy), ((o + 20), a_o16_litres), ((o + 21), a_o16_stands), ((o + 22), a_o16_first), ((o + 23), a_o16_heaps), ((o + 70), rr2.2.2), ((o + 76), a_beside)]) B Q p1 (0 : Int32) (9 : Int32) rr4 hrr4) (cwS 3 hts gi_X1_271 rfl rfl rfl hd_X1_isIn ⟨Nat.le_of_ble_eq_true rfl, Nat.le_of_ble_eq_true rfl⟩) rfl hl.1 (Nat.le_of_ble_eq_true rfl) dX1_more_22 ⟨Nat.le_refl _, Nat.le_refl _⟩ rfl (fun H locs hR hS => ?_)
    refine lv_if_ne (tgt := 30) hx hb dX1_more_25 (by decide) (fun c5 => ?_) (fun c5 => ?_)
    · have hf := ite_f c5 hf
      refine lv_aload_n hx hb dX1_more_30 rfl (lv_at hl 0 rfl) ?_
      refine g_getr (b := (o + 16)) hx hb hts hown hG hR gFx_X1_119_0 sh_o.1 ((congrFun (ov_no rfl) _).trans x_o_row) dX1_more_31 ?_
      refine lv_aload_n hx hb dX1_more_34 rfl (lv_at hl 0 rfl) ?_
      refine g_getr (b := (o + 7)) hx hb hts hown hG hR gFx_X1_96_0 sh_o.1 ((congrFun (ov_no rfl) _).trans x_o_now) dX1_more_35 ?_
      refine g_getr (b := y) hx hb hts hown hG hR gFx_X1_241_2 sh_o7 ((congrFun (ov_no rfl) _).trans x_o7_yard) dX1_more_38 ?_
      refine lv_aload_n hx hb dX1_more_41 rfl (lv_at hl 0 rfl) ?_
      refine g_getr (b := (o + 70)) hx hb hts hown hG hR gFx_X1_135_0 sh_o.1 ((congrFun (ov_no rfl) _).trans ((sh_o.2 5 _ rfl).2)) dX1_more_42 ?_
      refine lv_aload_n hx hb dX1_more_45 rfl (lv_at hl 0 rfl) ?_
      refine n_geti (v := rr2.2.1) hx hb hts hown hG hR gFi_X1_308_0 sh_o.1 (ov_get 2 rfl rfl) dX1_more_46 ?_
      refine lv_iconst (v := 0) hx hb dX1_more_49 li_0 ?_
      obtain ⟨rr6, hrr6, hf⟩ := bind_s hf
      refine g0_cVv (rm := (2, 50)) (As := [.ref y, .ref (o + 70), .int rr2.2.1, .int (0 : Int32)]) (rest := []) ⟨hx, hb, hml, hown, hts⟩ hG hR hS (m10_begin l G K (ov I [(1, o, rr1.1), (2, o, rr1.2), (18, o, rr2.2.1), (29, o, i_besideMany), (702, (o + 16), i_o16_many), (703, (o + 16), i_o16_water), (704, (o + 16), i_o16_thrown), (705, (o + 16), i_o16_tick), (714, (o + 16), i_o16_empties), (715, (o + 16), i_o16_backFirst), (716, (o + 16), i_o16_backMany), (717, (o + 16), i_o16_drawn), (718, (o + 16), i_o16_spilt)]) J (ov X [(701, (o + 16), x0_o16_yard)]) (ova A [((o + 1), a_tape), ((o + 17), a_o16_men), ((o + 18), a_o16_done), ((o + 19), a_o16_busy), ((o + 20), a_o16_litres), ((o + 21), a_o16_stands), ((o + 22), a_o16_first), ((o + 23), a_o16_heaps), ((o + 70), rr2.2.2), ((o + 76), a_beside)]) B Q (o + 16) y (Sh.ov rfl sh_o16) (Sh.ov rfl sh_y) (o + 70) 12 k_a_asked (by omega) rr2.2.1 (0 : Int32) i_y_pails i_o16_many i_o16_water i_o16_thrown i_o16_tick i_o16_empties i_o16_backFirst i_o16_backMany i_o16_drawn i_o16_spilt x0_o16_yard a_o16_men a_o16_done a_o16_busy a_o16_litres a_o16_stands a_o16_first a_o16_heaps rr2.2.2 ((congrFun (ov_no rfl) _).trans e_i_y_pails) (ov_get 4 rfl rfl) (ov_get 5 rfl rfl) (ov_get 6 rfl rfl) (ov_get 7 rfl rfl) (ov_get 8 rfl rfl) (ov_get 9 rfl rfl) (ov_get 10 rfl rfl) (ov_get 11 rfl rfl) (ov_get 12 rfl rfl) (ov_get 0 rfl rfl) (ova_get 1 hN_A rfl) (ova_get 2 hN_A rfl) (ova_get 3 hN_A rfl) (ova_get 4 hN_A rfl) (ova_get 5 hN_A rfl) (ova_get 6 hN_A rfl) (ova_get 7 hN_A rfl) (ova_get 8 hN_A rfl) rr6 hrr6) (cwV 4 hts gi_X1_323 rfl rfl rfl hd_X10_begin ⟨Nat.le_of_ble_eq_true rfl, Nat.le_of_ble_eq_true rfl⟩) sh_o16.1 rfl rfl hl.1 (Nat.le_of_ble_eq_true rfl) dX1_more_50 ⟨Nat.le_refl _, Nat.le_refl _⟩ rfl (fun H locs hR hS => ?_)
      have hR : RS G K (ov I [(1, o, rr1.1), (2, o, rr1.2), (18, o, rr2.2.1), (29, o, i_besideMany), (702, (o + 16), rr6.1), (703, (o + 16), rr6.2.1), (704, (o + 16), rr6.2.2.1), (705, (o + 16), rr6.2.2.2.1), (714, (o + 16), rr6.2.2.2.2.1), (715, (o + 16), rr6.2.2.2.2.2.1), (716, (o + 16), rr6.2.2.2.2.2.2.1), (717, (o + 16), rr6.2.2.2.2.2.2.2.1), (718, (o + 16), rr6.2.2.2.2.2.2.2.2.1)]) J (ov X [(701, (o + 16), (some y))]) (ova A [((o + 1), a_tape), ((o + 17), rr6.2.2.2.2.2.2.2.2.2.1), ((o + 18), rr6.2.2.2.2.2.2.2.2.2.2.1), ((o + 19), rr6.2.2.2.2.2.2.2.2.2.2.2.1), ((o + 20), rr6.2.2.2.2.2.2.2.2.2.2.2.2.1), ((o + 21), rr6.2.2.2.2.2.2.2.2.2.2.2.2.2.1), ((o + 22), rr6.2.2.2.2.2.2.2.2.2.2.2.2.2.2.1), ((o + 23), rr6.2.2.2.2.2.2.2.2.2.2.2.2.2.2.2), ((o + 70), rr2.2.2), ((o + 76), a_beside)]) B Q H := hR.to (ov_mix (l := [(1, o, rr1.1), (2, o, rr1.2), (18, o, rr2.2.1), (29, o, i_besideMany), (702, (o + 16), i_o16_many), (703, (o + 16), i_o16_water), (704, (o + 16), i_o16_thrown), (705, (o + 16), i_o16_tick), (714, (o + 16), i_o16_empties), (715, (o + 16), i_o16_backFirst), (716, (o + 16), i_o16_backMany), (717, (o + 16), i_o16_drawn), (718, (o + 16), i_o16_spilt)]) (l1 := [(1, o, rr1.1), (2, o, rr1.2), (18, o, rr2.2.1), (29, o, i_besideMany), (702, (o + 16), rr6.1), (703, (o + 16), rr6.2.1), (704, (o + 16), rr6.2.2.1), (705, (o + 16), rr6.2.2.2.1), (714, (o + 16), rr6.2.2.2.2.1), (715, (o + 16), rr6.2.2.2.2.2.1), (716, (o + 16), rr6.2.2.2.2.2.2.1), (717, (o + 16), rr6.2.2.2.2.2.2.2.1), (718, (o + 16), rr6.2.2.2.2.2.2.2.2.1)]) (es := [(702, (o + 16), rr6.1), (703, (o + 16), rr6.2.1), (704, (o + 16), rr6.2.2.1), (705, (o + 16), rr6.2.2.2.1), (714, (o + 16), rr6.2.2.2.2.1), (715, (o + 16), rr6.2.2.2.2.2.1), (716, (o + 16), rr6.2.2.2.2.2.2.1), (717, (o + 16), rr6.2.2.2.2.2.2.2.1), (718, (o + 16), rr6.2.2.2.2.2.2.2.2.1)]) (nd_key rfl) rfl [4, 5, 6, 7, 8, 9, 10, 11, 12] [0, 1, 2, 3] 13 rfl (by decide) rfl rfl) rfl (ov_merge (l := [(701, (o + 16), x0_o16_yard)]) rfl [0] [(701, (o + 16), (some y))] rfl rfl) (ova_mix (l := [((o + 1), a_tape), ((o + 17), a_o16_men), ((o + 18), a_o16_done), ((o + 19), a_o16_busy), ((o + 20), a_o16_litres), ((o + 21), a_o16_stands), ((o + 22), a_o16_first), ((o + 23), a_o16_heaps), ((o + 70), rr2.2.2), ((o + 76), a_beside)]) (l1 := [((o + 1), a_tape), ((o + 17), rr6.2.2.2.2.2.2.2.2.2.1), ((o + 18), rr6.2.2.2.2.2.2.2.2.2.2.1), ((o + 19), rr6.2.2.2.2.2.2.2.2.2.2.2.1), ((o + 20), rr6.2.2.2.2.2.2.2.2.2.2.2.2.1), ((o + 21), rr6.2.2.2.2.2.2.2.2.2.2.2.2.2.1), ((o + 22), rr6.2.2.2.2.2.2.2.2.2.2.2.2.2.2.1), ((o + 23), rr6.2.2.2.2.2.2.2.2.2.2.2.2.2.2.2), ((o + 70), rr2.2.2), ((o + 76), a_beside)]) (es := [((o + 17), rr6.2.2.2.2.2.2.2.2.2.1), ((o + 18), rr6.2.2.2.2.2.2.2.2.2.2.1), ((o + 19), rr6.2.2.2.2.2.2.2.2.2.2.2.1), ((o + 20), rr6.2.2.2.2.2.2.2.2.2.2.2.2.1), ((o + 21), rr6.2.2.2.2.2.2.2.2.2.2.2.2.2.1), ((o + 22), rr6.2.2.2.2.2.2.2.2.2.2.2.2.2.2.1), ((o + 23), rr6.2.2.2.2.2.2.2.2.2.2.2.2.2.2.2), ((o + 70), rr2.2.2)]) hN_A rfl [1, 2, 3, 4, 5, 6, 7, 8] [0, 9] 10 rfl (by decide) rfl rfl) rfl rfl
      refine lv_iconst (v := 0) hx hb dX1_more_53 li_0 ?_
      refine lv_istore_n (lv' := [(2, .int (0 : Int32)), (0, .ref o), (1, .int p1)]) hx hb dX1_more_54 rfl hl (by decide) rfl (fun ls hl => ?_)
      obtain ⟨rl7, hw7, hfo7⟩ := bind_s hf
      have hx7_0 : ∀ (x7_0 : (Nat → Int32)), f1_more_e7_0 p1 i_y_way i_y_draw i_y_thrown q_y_men mi_hand y rr1 rr2 rr6 x7_0 = some out → ∀ (H : Heap) (locs : List Loc) (ls : Array Slot), RS G K (ov I [(1, o, rr1.1), (2, o, rr1.2), (18, o, rr2.2.1), (29, o, i_besideMany), (702, (o + 16), rr6.1), (703, (o + 16), rr6.2.1), (704, (o + 16), rr6.2.2.1), (705, (o + 16), rr6.2.2.2.1), (714, (o + 16), rr6.2.2.2.2.1), (715, (o + 16), rr6.2.2.2.2.2.1), (716, (o + 16), rr6.2.2.2.2.2.2.1), (717, (o + 16), rr6.2.2.2.2.2.2.2.1), (718, (o + 16), rr6.2.2.2.2.2.2.2.2.1)]) J (ov X [(701, (o + 16), (some y))]) (ova A [((o + 1), a_tape), ((o + 17), rr6.2.2.2.2.2.2.2.2.2.1), ((o + 18), rr6.2.2.2.2.2.2.2.2.2.2.1), ((o + 19), rr6.2.2.2.2.2.2.2.2.2.2.2.1), ((o + 20), rr6.2.2.2.2.2.2.2.2.2.2.2.2.1), ((o + 21), rr6.2.2.2.2.2.2.2.2.2.2.2.2.2.1), ((o + 22), rr6.2.2.2.2.2.2.2.2.2.2.2.2.2.2.1), ((o + 23), rr6.2.2.2.2.2.2.2.2.2.2.2.2.2.2.2), ((o + 70), rr2.2.2), ((o + 76), x7_0)]) B Q H → va_S (gA G) s.heap H locs → lv_has ls 3 [(0, .ref o), (1, .int p1)] → W p l e ({ frames := 4, cells := 0, slots := 0, locals := 86 } : Room) s m args below meth c H locs 0 0 Z (F0 m 74 ls []) := by
        intro x7_0 hf H locs ls hR hS hl
        unfold f1_more_e7_0 at hf
        refine lv_iconst (v := 0) hx hb dX1_more_74 li_0 ?_
        refine lv_istore_n (lv' := [(2, .int (0 : Int32)), (0, .ref o), (1, .int p1)]) hx hb dX1_more_75 rfl hl (by decide) rfl (fun ls hl => ?_)
        obtain ⟨rl8, hw8, hfo8⟩ := bind_s hf
        have hx8_0 : ∀ (x8_0 : (Nat → Int32)), f1_more_e8_0 i_y_way i_y_draw i_y_thrown q_y_men mi_hand y rr1 rr2 rr6 x8_0 = some out → ∀ (H : Heap) (locs : List Loc) (ls : Array Slot), RS G K (ov I [(1, o, rr1.1), (2, o, rr1.2), (18, o, rr2.2.1), (29, o, i_besideMany), (702, (o + 16), rr6.1), (703, (o + 16), rr6.2.1), (704, (o + 16), rr6.2.2.1), (705, (o + 16), rr6.2.2.2.1), (714, (o + 16), rr6.2.2.2.2.1), (715, (o + 16), rr6.2.2.2.2.2.1), (716, (o + 16), rr6.2.2.2.2.2.2.1), (717, (o + 16), rr6.2.2.2.2.2.2.2.1), (718, (o + 16), rr6.2.2.2.2.2.2.2.2.1)]) J (ov X [(701, (o + 16), (some y))]) (ova A [((o + 1), a_tape), ((o + 17), rr6.2.2.2.2.2.2.2.2.2.1), ((o + 18), rr6.2.2.2.2.2.2.2.2.2.2.1), ((o + 19), rr6.2.2.2.2.2.2.2.2.2.2.2.1), ((o + 20), rr6.2.2.2.2.2.2.2.2.2.2.2.2.1), ((o + 21), rr6.2.2.2.2.2.2.2.2.2.2.2.2.2.1), ((o + 22), rr6.2.2.2.2.2.2.2.2.2.2.2.2.2.2.1), ((o + 23), rr6.2.2.2.2.2.2.2.2.2.2.2.2.2.2.2), ((o + 70), rr2.2.2), ((o + 76), x8_0)]) B Q H → va_S (gA G) s.heap H locs → lv_has ls 3 [(0, .ref o)] → W p l e ({ frames := 4, cells := 0, slots := 0, locals := 86 } : Room) s m args below meth c H locs 0 0 Z (F0 m 100 ls []) := by
          intro x8_0 hf H locs ls hR hS hl
          unfold f1_more_e8_0 at hf
          refine lv_aload_n hx hb dX1_more_100 rfl (lv_at hl 0 rfl) ?_
          refine lv_aload_n hx hb dX1_more_101 rfl (lv_at hl 0 rfl) ?_
          refine n_geti (v := rr2.2.1) hx hb hts hown hG hR gFi_X1_308_0 sh_o.1 (ov_get 2 rfl rfl) dX1_more_102 ?_
          refine n_puti (li' := [(1, o, rr1.1), (2, o, rr1.2), (18, o, rr2.2.1), (29, o, rr2.2.1), (702, (o + 16), rr6.1), (703, (o + 16), rr6.2.1), (704, (o + 16), rr6.2.2.1), (705, (o + 16), rr6.2.2.2.1), (714, (o + 16), rr6.2.2.2.2.1), (715, (o + 16), rr6.2.2.2.2.2.1), (716, (o + 16), rr6.2.2.2.2.2.2.1), (717, (o + 16), rr6.2.2.2.2.2.2.2.1), (718, (o + 16), rr6.2.2.2.2.2.2.2.2.1)]) hx hb hts hown hG hR hS gPi_X1_403_0 sh_o.1 3 rfl rfl rfl dX1_more_105 (fun H locs hR hS => ?_)
          refine lv_aload_n hx hb dX1_more_108 rfl (lv_at hl 0 rfl) ?_
          refine lv_aload_n hx hb dX1_more_109 rfl (lv_at hl 0 rfl) ?_
          obtain ⟨rr9, hrr9, hf⟩ := bind_s hf
          refine g0_cV (rm := (3, 64)) (As := []) (rest := [.ref o]) ⟨hx, hb, hml, hown, hts⟩ hG hR hS (m1_slowest l G K (ov I [(1, o, rr1.1), (2, o, rr1.2), (18, o, rr2.2.1), (29, o, rr2.2.1), (702, (o + 16), rr6.1), (703, (o + 16), rr6.2.1), (704, (o + 16), rr6.2.2.1), (705, (o + 16), rr6.2.2.2.1), (714, (o + 16), rr6.2.2.2.2.1), (715, (o + 16), rr6.2.2.2.2.2.1), (716, (o + 16), rr6.2.2.2.2.2.2.1), (717, (o + 16), rr6.2.2.2.2.2.2.2.1), (718, (o + 16), rr6.2.2.2.2.2.2.2.2.1)]) J (ov X [(701, (o + 16), (some y))]) (ova A [((o + 1), a_tape), ((o + 17), rr6.2.2.2.2.2.2.2.2.2.1), ((o + 18), rr6.2.2.2.2.2.2.2.2.2.2.1), ((o + 19), rr6.2.2.2.2.2.2.2.2.2.2.2.1), ((o + 20), rr6.2.2.2.2.2.2.2.2.2.2.2.2.1), ((o + 21), rr6.2.2.2.2.2.2.2.2.2.2.2.2.2.1), ((o + 22), rr6.2.2.2.2.2.2.2.2.2.2.2.2.2.2.1), ((o + 23), rr6.2.2.2.2.2.2.2.2.2.2.2.2.2.2.2), ((o + 70), rr2.2.2), ((o + 76), x8_0)]) B Q o y (Sh.ov rfl sh_o) (Sh.ov rfl sh_y) (Sh.ov rfl sh_o16) (ov_get 0 rfl rfl) ((congrFun (ov_no rfl) _).trans x_o_row) rr2.2.1 i_y_way i_y_draw i_y_thrown rr6.1 rr6.2.2.2.2.2.2.2.2.2.1 x8_0 q_y_men mi_hand (ov_get 2 rfl rfl) ((congrFun (ov_no rfl) _).trans e_i_y_way) ((congrFun (ov_no rfl) _).trans e_i_y_draw) ((congrFun (ov_no rfl) _).trans e_i_y_thrown) (ov_get 4 rfl rfl) (ova_get 1 hN_A rfl) (ova_get 9 hN_A rfl) e_q_y_men ((ov_no rfl).trans e_mi_hand) hman rr9 hrr9) (cwV 0 hts gi_X1_400 rfl rfl rfl hd_X1_slowest ⟨Nat.le_of_ble_eq_true rfl, Nat.le_of_ble_eq_true rfl⟩) sh_o.1 rfl rfl hl.1 (Nat.le_of_ble_eq_true rfl) dX1_more_110 ⟨Nat.le_refl _, Nat.le_refl _⟩ rfl (fun H locs hR hS => ?_)
          obtain ⟨rr10, hrr10, hf⟩ := bind_s hf
          refine g0_cV (rm := (2, 43)) (As := [.int rr9]) (rest := []) ⟨hx, hb, hml, hown, hts⟩ hG hR hS (m1_timeBy l G K (ov I [(1, o, rr1.1), (2, o, rr1.2), (18, o, rr2.2.1), (29, o, rr2.2.1), (702, (o + 16), rr6.1), (703, (o + 16), rr6.2.1), (704, (o + 16), rr6.2.2.1), (705, (o + 16), rr6.2.2.2.1), (714, (o + 16), rr6.2.2.2.2.1), (715, (o + 16), rr6.2.2.2.2.2.1), (716, (o + 16), rr6.2.2.2.2.2.2.1), (717, (o + 16), rr6.2.2.2.2.2.2.2.1), (718, (o + 16), rr6.2.2.2.2.2.2.2.2.1)]) J (ov X [(701, (o + 16), (some y))]) (ova A [((o + 1), a_tape), ((o + 17), rr6.2.2.2.2.2.2.2.2.2.1), ((o + 18), rr6.2.2.2.2.2.2.2.2.2.2.1), ((o + 19), rr6.2.2.2.2.2.2.2.2.2.2.2.1), ((o + 20), rr6.2.2.2.2.2.2.2.2.2.2.2.2.1), ((o + 21), rr6.2.2.2.2.2.2.2.2.2.2.2.2.2.1), ((o + 22), rr6.2.2.2.2.2.2.2.2.2.2.2.2.2.2.1), ((o + 23), rr6.2.2.2.2.2.2.2.2.2.2.2.2.2.2.2), ((o + 70), rr2.2.2), ((o + 76), x8_0)]) B Q o y (Sh.ov rfl sh_o) (Sh.ov rfl sh_y) (Sh.ov rfl sh_o16) (ov_get 0 rfl rfl) ((congrFun (ov_no rfl) _).trans x_o_row) rr9 i_y_way i_y_draw i_y_thrown rr6.1 rr6.2.2.2.2.2.2.2.2.2.1 x8_0 q_y_men mi_hand ((congrFun (ov_no rfl) _).trans e_i_y_way) ((congrFun (ov_no rfl) _).trans e_i_y_draw) ((congrFun (ov_no rfl) _).trans e_i_y_thrown) (ov_get 4 rfl rfl) (ova_get 1 hN_A rfl) (ova_get 9 hN_A rfl) e_q_y_men ((ov_no rfl).trans e_mi_hand) hman rr10 hrr10) (cwV 1 hts gi_X1_397 rfl rfl rfl hd_X1_timeBy ⟨Nat.le_of_ble_eq_true rfl, Nat.le_of_ble_eq_true rfl⟩) sh_o.1 rfl rfl hl.1 (Nat.le_of_ble_eq_true rfl) dX1_more_113 ⟨Nat.le_refl _, Nat.le_refl _⟩ rfl (fun H locs hR hS => ?_)
          obtain rfl := some_i hf
          exact hend _ _ _ _ dX1_more_116 hR hS
        refine whl_walk (P := fun (s8 : Int32 × (Nat → Int32)) => ∀ (H : Heap) (locs : List Loc) (ls : Array Slot), RS G K (ov I [(1, o, rr1.1), (2, o, rr1.2), (18, o, rr2.2.1), (29, o, i_besideMany), (702, (o + 16), rr6.1), (703, (o + 16), rr6.2.1), (704, (o + 16), rr6.2.2.1), (705, (o + 16), rr6.2.2.2.1), (714, (o + 16), rr6.2.2.2.2.1), (715, (o + 16), rr6.2.2.2.2.2.1), (716, (o + 16), rr6.2.2.2.2.2.2.1), (717, (o + 16), rr6.2.2.2.2.2.2.2.1), (718, (o + 16), rr6.2.2.2.2.2.2.2.2.1)]) J (ov X [(701, (o + 16), (some y))]) (ova A [((o + 1), a_tape), ((o + 17), rr6.2.2.2.2.2.2.2.2.2.1), ((o + 18), rr6.2.2.2.2.2.2.2.2.2.2.1), ((o + 19), rr6.2.2.2.2.2.2.2.2.2.2.2.1), ((o + 20), rr6.2.2.2.2.2.2.2.2.2.2.2.2.1), ((o + 21), rr6.2.2.2.2.2.2.2.2.2.2.2.2.2.1), ((o + 22), rr6.2.2.2.2.2.2.2.2.2.2.2.2.2.2.1), ((o + 23), rr6.2.2.2.2.2.2.2.2.2.2.2.2.2.2.2), ((o + 70), rr2.2.2), ((o + 76), s8.2)]) B Q H → va_S (gA G) s.heap H locs → lv_has ls 3 [(0, .ref o), (1, .int p1), (2, .int s8.1)] → W p l e ({ frames := 4, cells := 0, slots := 0, locals := 86 } : Room) s m args below meth c H locs 0 0 Z (F0 m 76 ls [])) (r := rl8) ?_ FU _ hw8 _ _ _ hR hS (lv_sub hl [1, 2, 0] rfl)
        clear hR hS hl hf
        intro s8 o8 hf hk8 H locs ls hR hS hl
        obtain ⟨w8_2, w8_a_beside⟩ := s8
        have hf : f1_more_s8 p1 i_y_way i_y_draw i_y_thrown q_y_men mi_hand rr2 rr6 w8_2 w8_a_beside = some o8 := hf
        have hR : RS G K (ov I [(1, o, rr1.1), (2, o, rr1.2), (18, o, rr2.2.1), (29, o, i_besideMany), (702, (o + 16), rr6.1), (703, (o + 16), rr6.2.1), (704, (o + 16), rr6.2.2.1), (705, (o + 16), rr6.2.2.2.1), (714, (o + 16), rr6.2.2.2.2.1), (715, (o + 16), rr6.2.2.2.2.2.1), (716, (o + 16), rr6.2.2.2.2.2.2.1), (717, (o + 16), rr6.2.2.2.2.2.2.2.1), (718, (o + 16), rr6.2.2.2.2.2.2.2.2.1)]) J (ov X [(701, (o + 16), (some y))]) (ova A [((o + 1), a_tape), ((o + 17), rr6.2.2.2.2.2.2.2.2.2.1), ((o + 18), rr6.2.2.2.2.2.2.2.2.2.2.1), ((o + 19), rr6.2.2.2.2.2.2.2.2.2.2.2.1), ((o + 20), rr6.2.2.2.2.2.2.2.2.2.2.2.2.1), ((o + 21), rr6.2.2.2.2.2.2.2.2.2.2.2.2.2.1), ((o + 22), rr6.2.2.2.2.2.2.2.2.2.2.2.2.2.2.1), ((o + 23), rr6.2.2.2.2.2.2.2.2.2.2.2.2.2.2.2), ((o + 70), rr2.2.2), ((o + 76), w8_a_beside)]) B Q H := hR
        have hl : lv_has ls 3 [(0, .ref o), (1, .int p1), (2, .int w8_2)] := hl
        unfold f1_more_s8 at hf
        refine lv_iload_n hx hb dX1_more_76 rfl (lv_at hl 2 rfl) ?_
        refine lv_iload_n hx hb dX1_more_77 rfl (lv_at hl 1 rfl) ?_
        refine lv_icmp_ge (tgt := 100) hx hb dX1_more_78 (by decide) (fun c11 => ?_) (fun c11 => ?_)
        · have hf := ite_t c11 hf
          obtain rfl := some_i hf
          replace hk8 : _ = rl8 := hk8
          subst hk8
          exact hx8_0 w8_a_beside hfo8 _ _ _ hR hS (lv_sub hl [0] rfl)
        · have hf := ite_f c11 hf
          refine lv_aload_n hx hb dX1_more_81 rfl (lv_at hl 0 rfl) ?_
          refine g_getr (b := (o + 76)) hx hb hts hown hG hR gFx_X1_154_0 sh_o.1 ((congrFun (ov_no rfl) _).trans ((sh_o.2 11 _ rfl).2)) dX1_more_82 ?_
          refine lv_aload_n hx hb dX1_more_85 rfl (lv_at hl 0 rfl) ?_
          obtain ⟨rr12, hrr12, hf⟩ := bind_s hf
          refine g0_cV (rm := (3, 64)) (As := []) (rest := [.ref (o + 76)]) ⟨hx, hb, hml, hown, hts⟩ hG hR hS (m1_slowest l G K (ov I [(1, o, rr1.1), (2, o, rr1.2), (18, o, rr2.2.1), (29, o, i_besideMany), (702, (o + 16), rr6.1), (703, (o + 16), rr6.2.1), (704, (o + 16), rr6.2.2.1), (705, (o + 16), rr6.2.2.2.1), (714, (o + 16), rr6.2.2.2.2.1), (715, (o + 16), rr6.2.2.2.2.2.1), (716, (o + 16), rr6.2.2.2.2.2.2.1), (717, (o + 16), rr6.2.2.2.2.2.2.2.1), (718, (o + 16), rr6.2.2.2.2.2.2.2.2.1)]) J (ov X [(701, (o + 16), (some y))]) (ova A [((o + 1), a_tape), ((o + 17), rr6.2.2.2.2.2.2.2.2.2.1), ((o + 18), rr6.2.2.2.2.2.2.2.2.2.2.1), ((o + 19), rr6.2.2.2.2.2.2.2.2.2.2.2.1), ((o + 20), rr6.2.2.2.2.2.2.2.2.2.2.2.2.1), ((o + 21), rr6.2.2.2.2.2.2.2.2.2.2.2.2.2.1), ((o + 22), rr6.2.2.2.2.2.2.2.2.2.2.2.2.2.2.1), ((o + 23), rr6.2.2.2.2.2.2.2.2.2.2.2.2.2.2.2), ((o + 70), rr2.2.2), ((o + 76), w8_a_beside)]) B Q o y (Sh.ov rfl sh_o) (Sh.ov rfl sh_y) (Sh.ov rfl sh_o16) (ov_get 0 rfl rfl) ((congrFun (ov_no rfl) _).trans x_o_row) rr2.2.1 i_y_way i_y_draw i_y_thrown rr6.1 rr6.2.2.2.2.2.2.2.2.2.1 w8_a_beside q_y_men mi_hand (ov_get 2 rfl rfl) ((congrFun (ov_no rfl) _).trans e_i_y_way) ((congrFun (ov_no rfl) _).trans e_i_y_draw) ((congrFun (ov_no rfl) _).trans e_i_y_thrown) (ov_get 4 rfl rfl) (ova_get 1 hN_A rfl) (ova_get 9 hN_A rfl) e_q_y_men ((ov_no rfl).trans e_mi_hand) hman rr12 hrr12) (cwV 0 hts gi_X1_400 rfl rfl rfl hd_X1_slowest ⟨Nat.le_of_ble_eq_true rfl, Nat.le_of_ble_eq_true rfl⟩) sh_o.1 rfl rfl hl.1 (Nat.le_of_ble_eq_true rfl) dX1_more_86 ⟨Nat.le_refl _, Nat.le_refl _⟩ rfl (fun H locs hR hS => ?_)
          refine lv_dup2_11 hx hb dX1_more_89 rfl rfl ?_
          obtain ⟨c13, hf⟩ := gd_some hf
          obtain ⟨v14, ev14, hf⟩ := lt_some hf
          refine n_iald (x := w8_a_beside) hx hb hG hR k_a_beside c13 (ova_get 9 hN_A rfl) ev14 dX1_more_90 ?_
          refine lv_iconst (v := 1) hx hb dX1_more_91 li_1 ?_
          obtain ⟨v15, ev15, hf⟩ := lt_some hf
          refine n_iadd hx hb ev15 dX1_more_92 ?_
          obtain ⟨c16, hf⟩ := gd_some hf
          obtain ⟨u17, eu17, hf⟩ := lt_some hf
          refine n_iast (la' := [((o + 1), a_tape), ((o + 17), rr6.2.2.2.2.2.2.2.2.2.1), ((o + 18), rr6.2.2.2.2.2.2.2.2.2.2.1), ((o + 19), rr6.2.2.2.2.2.2.2.2.2.2.2.1), ((o + 20), rr6.2.2.2.2.2.2.2.2.2.2.2.2.1), ((o + 21), rr6.2.2.2.2.2.2.2.2.2.2.2.2.2.1), ((o + 22), rr6.2.2.2.2.2.2.2.2.2.2.2.2.2.2.1), ((o + 23), rr6.2.2.2.2.2.2.2.2.2.2.2.2.2.2.2), ((o + 70), rr2.2.2), ((o + 76), u17)]) hx hb hG hR hS k_a_beside c16 hN_A 9 rfl eu17 rfl dX1_more_93 (fun H locs hR hS => ?_)
          obtain ⟨v18, ev18, hf⟩ := lt_some hf
          refine lv_iinc (k := 2) (v := v18) (lv' := [(2, .int v18), (0, .ref o), (1, .int p1)]) hx hb dX1_more_94 hl rfl (by rw [ev18]; rfl) (by decide) rfl (fun ls hl => ?_)
          refine lv_goto (tgt := 76) hx hb dX1_more_97 (by decide) ?_
          obtain rfl := some_i hf
          exact hk8 _ _ _ hR hS (lv_sub hl [1, 2, 0] rfl)
      refine whl_walk (P := fun (s7 : Int32 × (Nat → Int32)) => ∀ (H : Heap) (locs : List Loc) (ls : Array Slot), RS G K (ov I [(1, o, rr1.1), (2, o, rr1.2), (18, o, rr2.2.1), (29, o, i_besideMany), (702, (o + 16), rr6.1), (703, (o + 16), rr6.2.1), (704, (o + 16), rr6.2.2.1), (705, (o + 16), rr6.2.2.2.1), (714, (o + 16), rr6.2.2.2.2.1), (715, (o + 16), rr6.2.2.2.2.2.1), (716, (o + 16), rr6.2.2.2.2.2.2.1), (717, (o + 16), rr6.2.2.2.2.2.2.2.1), (718, (o + 16), rr6.2.2.2.2.2.2.2.2.1)]) J (ov X [(701, (o + 16), (some y))]) (ova A [((o + 1), a_tape), ((o + 17), rr6.2.2.2.2.2.2.2.2.2.1), ((o + 18), rr6.2.2.2.2.2.2.2.2.2.2.1), ((o + 19), rr6.2.2.2.2.2.2.2.2.2.2.2.1), ((o + 20), rr6.2.2.2.2.2.2.2.2.2.2.2.2.1), ((o + 21), rr6.2.2.2.2.2.2.2.2.2.2.2.2.2.1), ((o + 22), rr6.2.2.2.2.2.2.2.2.2.2.2.2.2.2.1), ((o + 23), rr6.2.2.2.2.2.2.2.2.2.2.2.2.2.2.2), ((o + 70), rr2.2.2), ((o + 76), s7.2)]) B Q H → va_S (gA G) s.heap H locs → lv_has ls 3 [(0, .ref o), (1, .int p1), (2, .int s7.1)] → W p l e ({ frames := 4, cells := 0, slots := 0, locals := 86 } : Room) s m args below meth c H locs 0 0 Z (F0 m 55 ls [])) (r := rl7) ?_ FU _ hw7 _ _ _ hR hS (lv_sub hl [1, 2, 0] rfl)
      clear hR hS hl hf
      intro s7 o7 hf hk7 H locs ls hR hS hl
      obtain ⟨w7_2, w7_a_beside⟩ := s7
      have hf : f1_more_s7 w7_2 w7_a_beside = some o7 := hf
      have hR : RS G K (ov I [(1, o, rr1.1), (2, o, rr1.2), (18, o, rr2.2.1), (29, o, i_besideMany), (702, (o + 16), rr6.1), (703, (o + 16), rr6.2.1), (704, (o + 16), rr6.2.2.1), (705, (o + 16), rr6.2.2.2.1), (714, (o + 16), rr6.2.2.2.2.1), (715, (o + 16), rr6.2.2.2.2.2.1), (716, (o + 16), rr6.2.2.2.2.2.2.1), (717, (o + 16), rr6.2.2.2.2.2.2.2.1), (718, (o + 16), rr6.2.2.2.2.2.2.2.2.1)]) J (ov X [(701, (o + 16), (some y))]) (ova A [((o + 1), a_tape), ((o + 17), rr6.2.2.2.2.2.2.2.2.2.1), ((o + 18), rr6.2.2.2.2.2.2.2.2.2.2.1), ((o + 19), rr6.2.2.2.2.2.2.2.2.2.2.2.1), ((o + 20), rr6.2.2.2.2.2.2.2.2.2.2.2.2.1), ((o + 21), rr6.2.2.2.2.2.2.2.2.2.2.2.2.2.1), ((o + 22), rr6.2.2.2.2.2.2.2.2.2.2.2.2.2.2.1), ((o + 23), rr6.2.2.2.2.2.2.2.2.2.2.2.2.2.2.2), ((o + 70), rr2.2.2), ((o + 76), w7_a_beside)]) B Q H := hR
      have hl : lv_has ls 3 [(0, .ref o), (1, .int p1), (2, .int w7_2)] := hl
      unfold f1_more_s7 at hf
      refine lv_iload_n hx hb dX1_more_55 rfl (lv_at hl 2 rfl) ?_
      refine lv_bipush (v := 12) hx hb dX1_more_56 lb_12 ?_
      refine lv_icmp_ge (tgt := 74) hx hb dX1_more_58 (by decide) (fun c19 => ?_) (fun c19 => ?_)
      · have hf := ite_t c19 hf
        obtain rfl := some_i hf
        replace hk7 : _ = rl7 := hk7
        subst hk7
        exact hx7_0 w7_a_beside hfo7 _ _ _ hR hS (lv_sub hl [0, 1] rfl)
      · have hf := ite_f c19 hf
        refine lv_aload_n hx hb dX1_more_61 rfl (lv_at hl 0 rfl) ?_
        refine g_getr (b := (o + 76)) hx hb hts hown hG hR gFx_X1_154_0 sh_o.1 ((congrFun (ov_no rfl) _).trans ((sh_o.2 11 _ rfl).2)) dX1_more_62 ?_
        refine lv_iload_n hx hb dX1_more_65 rfl (lv_at hl 2 rfl) ?_
        refine lv_iconst (v := 0) hx hb dX1_more_66 li_0 ?_
        obtain ⟨c20, hf⟩ := gd_some hf
        obtain ⟨u21, eu21, hf⟩ := lt_some hf
        refine n_iast (la' := [((o + 1), a_tape), ((o + 17), rr6.2.2.2.2.2.2.2.2.2.1), ((o + 18), rr6.2.2.2.2.2.2.2.2.2.2.1), ((o + 19), rr6.2.2.2.2.2.2.2.2.2.2.2.1), ((o + 20), rr6.2.2.2.2.2.2.2.2.2.2.2.2.1), ((o + 21), rr6.2.2.2.2.2.2.2.2.2.2.2.2.2.1), ((o + 22), rr6.2.2.2.2.2.2.2.2.2.2.2.2.2.2.1), ((o + 23), rr6.2.2.2.2.2.2.2.2.2.2.2.2.2.2.2), ((o + 70), rr2.2.2), ((o + 76), u21)]) hx hb hG hR hS k_a_beside c20 hN_A 9 rfl eu21 rfl dX1_more_67 (fun H locs hR hS => ?_)
        obtain ⟨v22, ev22, hf⟩ := lt_some hf
        refine lv_iinc (k := 2) (v := v22) (lv' := [(2, .int v22), (0, .ref o), (1, .int p1)]) hx hb dX1_more_68 hl rfl (by rw [ev22]; rfl) (by decide) rfl (fun ls hl => ?_)
        refine lv_goto (tgt := 55) hx hb dX1_more_71 (by decide) ?_
        obtain rfl := some_i hf
        exact hk7 _ _ _ hR hS (lv_sub hl [1, 2, 0] rfl)
    · have hf := ite_t c5 hf
      refine lv_iconst (v := -1) hx hb dX1_more_28 li_m1 ?_
      obtain rfl := some_i hf
      exact hend _ _ _ _ dX1_more_29 hR hS
noncomputable def f1_moreAt (p1 : Int32) (i_besideMany : Int32) (a_beside : Nat → Int32) : Option (Int32) :=
  lt (i_besideMany - (1 : Int32)) fun v1 =>
  (f1_isIn p1 (0 : Int32) v1).bind fun rr2 =>
  if rr2 = 0 then
    some (-1 : Int32)
  else
    gd (inb p1 12) <|
    lt (a_beside p1.toNatClampNeg) fun v5 =>
    some v5
set_option maxHeartbeats 4000000 in
theorem m1_moreAt (l : Launch) (G : gG) (K : gK) (I : gI) (J : gJ) (X : gX) (A : gI) (B : gJ) (Q : gX) (o : Nat) (sh_o : Sh K X o 0 rows0) (p1 : Int32) (i_besideMany : Int32) (a_beside : Nat → Int32) (e_i_besideMany : I 29 o = i_besideMany) (e_a_beside : A (o + 76) = a_beside) (out : Int32) (hf : f1_moreAt p1 i_besideMany a_beside = some out) : GMet l yX1_moreAt cX1_moreAt 2 (some .int) (1) (22) G [.ref o, .int p1] K I J X A B Q (some (.int out)) K I J X A B Q 0 0 := by
  refine GMet.of (y := yX1_moreAt) rfl (Nat.le_of_ble_eq_true rfl) rfl ?_
  intro p e s m below meth c ls hx hb hr hml hlocks hts hown hname hG hR hl
  have hown : s.vm.findClass RX1 = some m.cls := hown
  have k_a_beside : K (o + 76) = some (.inr (0, 12)) := (sh_o.2 11 _ rfl).1
  have hR : RS G K I J X A B Q s.heap := hR.to rfl rfl rfl rfl rfl rfl
  have hS : va_S (gA G) s.heap s.heap [] := va_S.rf
  have hend : ∀ (pc : Nat) (H : Heap) (locs : List Loc) (ls : Array Slot), decode cX1_moreAt pc = .ok (.ireturn, 1) → RS G K I J X A B Q H → va_S (gA G) s.heap H locs → W p l e ({ frames := 1, cells := 0, slots := 0, locals := 22 } : Room) s m ([.ref o, .int p1] : List Value).toArray below meth c H locs 0 0 (MQ below (gQ G (some (.int out)) K I J X A B Q) ([.ref o, .int p1] : List Value).toArray s 0 0 (gA G)) (F0 m pc ls [.int out]) := fun pc H locs ls hd hR hS => g_iret hx hb hr hlocks hG hR hS rfl hd
  generalize MQ below (gQ G (some (.int out)) K I J X A B Q) ([.ref o, .int p1] : List Value).toArray s 0 0 (gA G) = Z at hend ⊢
  generalize ([.ref o, .int p1] : List Value).toArray = args at hts hend ⊢
  unfold f1_moreAt at hf
  refine lv_iload_n hx hb dX1_moreAt_0 rfl (lv_at hl 1 rfl) ?_
  refine lv_iconst (v := 0) hx hb dX1_moreAt_1 li_0 ?_
  refine lv_aload_n hx hb dX1_moreAt_2 rfl (lv_at hl 0 rfl) ?_
  refine n_geti (v := i_besideMany) hx hb hts hown hG hR gFi_X1_403_0 sh_o.1 e_i_besideMany dX1_moreAt_3 ?_
  refine lv_iconst (v := 1) hx hb dX1_moreAt_6 li_1 ?_
  obtain ⟨v1, ev1, hf⟩ := lt_some hf
  refine n_isub hx hb ev1 dX1_moreAt_7 ?_
  obtain ⟨rr2, hrr2, hf⟩ := bind_s hf
  refine g0_cS (rm := (0, 0)) (As := [.int p1, .int (0 : Int32), .int v1]) (rest := []) ⟨hx, hb, hml, hown, hts⟩ hG hR hS (m1_isIn l G K I J X A B Q p1 (0 : Int32) v1 rr2 hrr2) (cwS 3 hts gi_X1_271 rfl rfl rfl hd_X1_isIn ⟨Nat.le_of_ble_eq_true rfl, Nat.le_of_ble_eq_true rfl⟩) rfl hl.1 (Nat.le_of_ble_eq_true rfl) dX1_moreAt_8 ⟨Nat.le_refl _, Nat.le_refl _⟩ rfl (fun H locs hR hS => ?_)
  refine lv_if_eq (tgt := 23) hx hb dX1_moreAt_11 (by decide) (fun c3 => ?_) (fun c3 => ?_)
  · have hf := ite_t c3 hf
    refine lv_iconst (v := -1) hx hb dX1_moreAt_23 li_m1 ?_
    obtain rfl := some_i hf
    exact hend _ _ _ _ dX1_moreAt_24 hR hS
  · have hf := ite_f c3 hf
    refine lv_aload_n hx hb dX1_moreAt_14 rfl (lv_at hl 0 rfl) ?_
    refine g_getr (b := (o + 76)) hx hb hts hown hG hR gFx_X1_154_0 sh_o.1 ((sh_o.2 11 _ rfl).2) dX1_moreAt_15 ?_
    refine lv_iload_n hx hb dX1_moreAt_18 rfl (lv_at hl 1 rfl) ?_
    obtain ⟨c4, hf⟩ := gd_some hf
    obtain ⟨v5, ev5, hf⟩ := lt_some hf
    refine n_iald (x := a_beside) hx hb hG hR k_a_beside c4 e_a_beside ev5 dX1_moreAt_19 ?_
    refine lv_goto (tgt := 24) hx hb dX1_moreAt_20 (by decide) ?_
    obtain rfl := some_i hf
    exact hend _ _ _ _ dX1_moreAt_24 hR hS
noncomputable def f1_relieves_e2_0 (x2_0 : Int32 × (Nat → Int32)) : Option (Int32 × (Nat → Int32)) :=
  some x2_0

noncomputable def f1_relieves_e9_0 (w2_2 : Int32) (x9_0 : (Nat → Int32)) : Option ((Int32 × (Nat → Int32)) ⊕ (Int32 × (Nat → Int32))) :=
  lt (w2_2 + (1 : Int32)) fun v10 =>
  some (.inl (v10, x9_0))

noncomputable def f1_relieves_j122 (w9_3 : Int32) (w9_a_powers : Nat → Int32) (j122_s0 : Int32) : Option ((Int32 × (Nat → Int32)) ⊕ ((Nat → Int32))) :=
  gd (inb w9_3 12) <|
  lt (upd w9_a_powers w9_3.toNatClampNeg j122_s0) fun u15 =>
  lt (w9_3 + (1 : Int32)) fun v16 =>
  some (.inl (v16, u15))

noncomputable def f1_relieves_s9 (p1 : Int32) (a_asked : Nat → Int32) (q_y_men : Nat → Option Nat) (mi_power : Nat → Int32) (w2_2 : Int32) (w9_3 : Int32) (w9_a_powers : Nat → Int32) : Option ((Int32 × (Nat → Int32)) ⊕ ((Nat → Int32))) :=
  if p1 ≤ w9_3 then
    some (.inr w9_a_powers)
  else
    gd (¬ p1 = 0) <|
    lt (w2_2 - w2_2 / p1 * p1) fun v12 =>
    if w9_3 = v12 then
      gd (inb w9_3 12) <|
      lt (w9_a_powers w9_3.toNatClampNeg) fun v29 =>
      lt (v29 - (3 : Int32)) fun v30 =>
      f1_relieves_j122 w9_3 w9_a_powers v30
    else
      gd (inb w9_3 12) <|
      lt (w9_a_powers w9_3.toNatClampNeg) fun v19 =>
      lt (v19 + (1 : Int32)) fun v20 =>
      gd (inb w9_3 12) <|
      lt (a_asked w9_3.toNatClampNeg) fun v22 =>
      gd (inb v22 12) <|
      lt (q_y_men v22.toNatClampNeg) fun v24 =>
      (v24).bind fun m25 =>
      lt (mi_power m25) fun v26 =>
      lt (if v26 < v20 then v26 else v20) fun v27 =>
      f1_relieves_j122 w9_3 w9_a_powers v27

noncomputable def f1_relieves_s2 (p1 : Int32) (a_asked : Nat → Int32) (q_y_men : Nat → Option Nat) (mi_power : Nat → Int32) (w2_2 : Int32) (w2_a_powers : Nat → Int32) : Option ((Int32 × (Nat → Int32)) ⊕ (Int32 × (Nat → Int32))) :=
  if (60 : Int32) ≤ w2_2 then
    some (.inr ((1 : Int32), w2_a_powers))
  else
    gd (¬ p1 = 0) <|
    lt (w2_2 - w2_2 / p1 * p1) fun v4 =>
    gd (inb v4 12) <|
    lt (w2_a_powers v4.toNatClampNeg) fun v7 =>
    if (3 : Int32) ≤ v7 then
      (whl (fun (s9 : Int32 × (Nat → Int32)) => f1_relieves_s9 p1 a_asked q_y_men mi_power w2_2 s9.1 s9.2) FU ((0 : Int32), w2_a_powers)).bind fun rl9 =>
      f1_relieves_e9_0 w2_2 rl9
    else
      some (.inr ((0 : Int32), w2_a_powers))

noncomputable def f1_relieves_e1_0 (p1 : Int32) (a_asked : Nat → Int32) (q_y_men : Nat → Option Nat) (mi_power : Nat → Int32) (x1_0 : (Nat → Int32)) : Option (Int32 × (Nat → Int32)) :=
  (whl (fun (s2 : Int32 × (Nat → Int32)) => f1_relieves_s2 p1 a_asked q_y_men mi_power s2.1 s2.2) FU ((0 : Int32), x1_0)).bind fun rl2 =>
  f1_relieves_e2_0 rl2

noncomputable def f1_relieves_s1 (p1 : Int32) (a_asked : Nat → Int32) (q_y_men : Nat → Option Nat) (mi_power : Nat → Int32) (w1_2 : Int32) (w1_a_powers : Nat → Int32) : Option ((Int32 × (Nat → Int32)) ⊕ ((Nat → Int32))) :=
  if p1 ≤ w1_2 then
    some (.inr w1_a_powers)
  else
    gd (inb w1_2 12) <|
    lt (a_asked w1_2.toNatClampNeg) fun v33 =>
    gd (inb v33 12) <|
    lt (q_y_men v33.toNatClampNeg) fun v35 =>
    (v35).bind fun m36 =>
    lt (mi_power m36) fun v37 =>
    gd (inb w1_2 12) <|
    lt (upd w1_a_powers w1_2.toNatClampNeg v37) fun u39 =>
    lt (w1_2 + (1 : Int32)) fun v40 =>
    some (.inl (v40, u39))

noncomputable def f1_relieves (p1 : Int32) (a_asked : Nat → Int32) (a_powers : Nat → Int32) (q_y_men : Nat → Option Nat) (mi_power : Nat → Int32) : Option (Int32 × (Nat → Int32)) :=
  (whl (fun (s1 : Int32 × (Nat → Int32)) => f1_relieves_s1 p1 a_asked q_y_men mi_power s1.1 s1.2) FU ((0 : Int32), a_powers)).bind fun rl1 =>
  f1_relieves_e1_0 p1 a_asked q_y_men mi_power rl1
set_option maxHeartbeats 4000000 in
theorem m1_relieves (l : Launch) (G : gG) (K : gK) (I : gI) (J : gJ) (X : gX) (A : gI) (B : gJ) (Q : gX) (o : Nat) (y : Nat) (sh_o : Sh K X o 0 rows0) (sh_y : Sh K X y 3 rows3) (sh_o7 : K (o + 7) = some (.inl 2)) (x_o7_yard : X 200 (o + 7) = some y) (x_o_now : X 9 o = some (o + 7)) (p1 : Int32) (a_asked : Nat → Int32) (a_powers : Nat → Int32) (q_y_men : Nat → Option Nat) (mi_power : Nat → Int32) (e_a_asked : A (o + 70) = a_asked) (e_a_powers : A (o + 77) = a_powers) (e_q_y_men : Q (y + 1) = q_y_men) (e_mi_power : I 1203 = mi_power) (hman : ∀ (j m : Nat), q_y_men j = some m → K m = some (.inl 12)) (out : Int32 × (Nat → Int32)) (hf : f1_relieves p1 a_asked a_powers q_y_men mi_power = some out) : GMet l yX1_relieves cX1_relieves 4 (some .boolean) (1) (21) G [.ref o, .int p1] K I J X A B Q (some (.int out.1)) K I J X (ova A [((o + 70), a_asked), ((o + 77), out.2)]) B Q 0 0 := by
  refine GMet.of (y := yX1_relieves) rfl (Nat.le_of_ble_eq_true rfl) rfl ?_
  intro p e s m below meth c ls hx hb hr hml hlocks hts hown hname hG hR hl
  have hown : s.vm.findClass RX1 = some m.cls := hown
  have k_a_asked : K (o + 70) = some (.inr (0, 12)) := (sh_o.2 5 _ rfl).1
  have k_a_powers : K (o + 77) = some (.inr (0, 12)) := (sh_o.2 12 _ rfl).1
  have k_q_y_men : K (y + 1) = some (.inr (4, 12)) := (sh_y.2 0 _ rfl).1
  have hN_A : nda [(o + 70), (o + 77)] := nd_off o [70, 77] rfl
  have hR : RS G K I J X (ova A [((o + 70), a_asked), ((o + 77), a_powers)]) B Q s.heap := hR.to rfl rfl rfl (Eq.symm (ova_sc e_a_asked (ova_sc e_a_powers rfl))) rfl rfl
  have hS : va_S (gA G) s.heap s.heap [] := va_S.rf
  have hend : ∀ (pc : Nat) (H : Heap) (locs : List Loc) (ls : Array Slot), decode cX1_relieves pc = .ok (.ireturn, 1) → narrow .boolean (.int out.1) = .int out.1 → RS G K I J X (ova A [((o + 70), a_asked), ((o + 77), out.2)]) B Q H → va_S (gA G) s.heap H locs → W p l e ({ frames := 1, cells := 0, slots := 0, locals := 21 } : Room) s m ([.ref o, .int p1] : List Value).toArray below meth c H locs 0 0 (MQ below (gQ G (some (.int out.1)) K I J X (ova A [((o + 70), a_asked), ((o + 77), out.2)]) B Q) ([.ref o, .int p1] : List Value).toArray s 0 0 (gA G)) (F0 m pc ls [.int out.1]) := fun pc H locs ls hd hz hR hS => g_zret hx hb hr hlocks hz hG hR hS rfl hd
  generalize MQ below (gQ G (some (.int out.1)) K I J X (ova A [((o + 70), a_asked), ((o + 77), out.2)]) B Q) ([.ref o, .int p1] : List Value).toArray s 0 0 (gA G) = Z at hend ⊢
  generalize ([.ref o, .int p1] : List Value).toArray = args at hts hend ⊢
  unfold f1_relieves at hf
  refine lv_iconst (v := 0) hx hb dX1_relieves_0 li_0 ?_
  refine lv_istore_n (lv' := [(2, .int (0 : Int32)), (0, .ref o), (1, .int p1)]) hx hb dX1_relieves_1 rfl hl (by decide) rfl (fun ls hl => ?_)
  obtain ⟨rl1, hw1, hfo1⟩ := bind_s hf
  have hx1_0 : ∀ (x1_0 : (Nat → Int32)), f1_relieves_e1_0 p1 a_asked q_y_men mi_power x1_0 = some out → ∀ (H : Heap) (locs : List Loc) (ls : Array Slot), RS G K I J X (ova A [((o + 70), a_asked), ((o + 77), x1_0)]) B Q H → va_S (gA G) s.heap H locs → lv_has ls 4 [(0, .ref o), (1, .int p1)] → W p l e ({ frames := 1, cells := 0, slots := 0, locals := 21 } : Room) s m args below meth c H locs 0 0 Z (F0 m 39 ls []) := by
    intro x1_0 hf H locs ls hR hS hl
    unfold f1_relieves_e1_0 at hf
    refine lv_iconst (v := 0) hx hb dX1_relieves_39 li_0 ?_
    refine lv_istore_n (lv' := [(2, .int (0 : Int32)), (0, .ref o), (1, .int p1)]) hx hb dX1_relieves_40 rfl hl (by decide) rfl (fun ls hl => ?_)
    obtain ⟨rl2, hw2, hfo2⟩ := bind_s hf
    have hx2_0 : ∀ (x2_0 : Int32 × (Nat → Int32)), f1_relieves_e2_0 x2_0 = some out → ∀ (pc : Nat) (H : Heap) (locs : List Loc) (ls : Array Slot), decode cX1_relieves pc = .ok (.ireturn, 1) → narrow .boolean (.int x2_0.1) = .int x2_0.1 → RS G K I J X (ova A [((o + 70), a_asked), ((o + 77), x2_0.2)]) B Q H → va_S (gA G) s.heap H locs → W p l e ({ frames := 1, cells := 0, slots := 0, locals := 21 } : Room) s m args below meth c H locs 0 0 Z (F0 m pc ls [.int x2_0.1]) := by
      intro x2_0 hf pc H locs ls hd hz hR hS
      unfold f1_relieves_e2_0 at hf
      obtain rfl := some_i hf
      exact hend _ _ _ _ hd hz hR hS
    refine whl_walk (P := fun (s2 : Int32 × (Nat → Int32)) => ∀ (H : Heap) (locs : List Loc) (ls : Array Slot), RS G K I J X (ova A [((o + 70), a_asked), ((o + 77), s2.2)]) B Q H → va_S (gA G) s.heap H locs → lv_has ls 4 [(0, .ref o), (1, .int p1), (2, .int s2.1)] → W p l e ({ frames := 1, cells := 0, slots := 0, locals := 21 } : Room) s m args below meth c H locs 0 0 Z (F0 m 41 ls [])) (r := rl2) ?_ FU _ hw2 _ _ _ hR hS (lv_sub hl [1, 2, 0] rfl)
    clear hR hS hl hf
    intro s2 o2 hf hk2 H locs ls hR hS hl
    obtain ⟨w2_2, w2_a_powers⟩ := s2
    have hf : f1_relieves_s2 p1 a_asked q_y_men mi_power w2_2 w2_a_powers = some o2 := hf
    have hR : RS G K I J X (ova A [((o + 70), a_asked), ((o + 77), w2_a_powers)]) B Q H := hR
    have hl : lv_has ls 4 [(0, .ref o), (1, .int p1), (2, .int w2_2)] := hl
    unfold f1_relieves_s2 at hf
    refine lv_iload_n hx hb dX1_relieves_41 rfl (lv_at hl 2 rfl) ?_
    refine lv_bipush (v := 60) hx hb dX1_relieves_42 lb_60 ?_
    refine lv_icmp_ge (tgt := 135) hx hb dX1_relieves_44 (by decide) (fun c3 => ?_) (fun c3 => ?_)
    · have hf := ite_t c3 hf
      refine lv_iconst (v := 1) hx hb dX1_relieves_135 li_1 ?_
      obtain rfl := some_i hf
      replace hk2 : _ = rl2 := hk2
      subst hk2
      exact hx2_0 ((1 : Int32), w2_a_powers) hfo2 _ _ _ _ dX1_relieves_136 nz_1 hR hS
    · have hf := ite_f c3 hf
      refine lv_aload_n hx hb dX1_relieves_47 rfl (lv_at hl 0 rfl) ?_
      refine g_getr (b := (o + 77)) hx hb hts hown hG hR gFx_X1_157_0 sh_o.1 ((sh_o.2 12 _ rfl).2) dX1_relieves_48 ?_
      refine lv_iload_n hx hb dX1_relieves_51 rfl (lv_at hl 2 rfl) ?_
      refine lv_iload_n hx hb dX1_relieves_52 rfl (lv_at hl 1 rfl) ?_
      obtain ⟨c5, hf⟩ := gd_some hf
      obtain ⟨v4, ev4, hf⟩ := lt_some hf
      refine n_irem hx hb c5 ev4 dX1_relieves_53 ?_
      obtain ⟨c6, hf⟩ := gd_some hf
      obtain ⟨v7, ev7, hf⟩ := lt_some hf
      refine n_iald (x := w2_a_powers) hx hb hG hR k_a_powers c6 (ova_get 1 hN_A rfl) ev7 dX1_relieves_54 ?_
      refine lv_iconst (v := 3) hx hb dX1_relieves_55 li_3 ?_
      refine lv_icmp_ge (tgt := 61) hx hb dX1_relieves_56 (by decide) (fun c8 => ?_) (fun c8 => ?_)
      · have hf := ite_t c8 hf
        refine lv_iconst (v := 0) hx hb dX1_relieves_61 li_0 ?_
        refine lv_istore_n (lv' := [(3, .int (0 : Int32)), (0, .ref o), (1, .int p1), (2, .int w2_2)]) hx hb dX1_relieves_62 rfl hl (by decide) rfl (fun ls hl => ?_)
        obtain ⟨rl9, hw9, hfo9⟩ := bind_s hf
        have hx9_0 : ∀ (x9_0 : (Nat → Int32)), f1_relieves_e9_0 w2_2 x9_0 = some o2 → ∀ (H : Heap) (locs : List Loc) (ls : Array Slot), RS G K I J X (ova A [((o + 70), a_asked), ((o + 77), x9_0)]) B Q H → va_S (gA G) s.heap H locs → lv_has ls 4 [(0, .ref o), (1, .int p1), (2, .int w2_2)] → W p l e ({ frames := 1, cells := 0, slots := 0, locals := 21 } : Room) s m args below meth c H locs 0 0 Z (F0 m 129 ls []) := by
          intro x9_0 hf H locs ls hR hS hl
          unfold f1_relieves_e9_0 at hf
          obtain ⟨v10, ev10, hf⟩ := lt_some hf
          refine lv_iinc (k := 2) (v := v10) (lv' := [(2, .int v10), (0, .ref o), (1, .int p1)]) hx hb dX1_relieves_129 hl rfl (by rw [ev10]; rfl) (by decide) rfl (fun ls hl => ?_)
          refine lv_goto (tgt := 41) hx hb dX1_relieves_132 (by decide) ?_
          obtain rfl := some_i hf
          exact hk2 _ _ _ hR hS (lv_sub hl [1, 2, 0] rfl)
        refine whl_walk (P := fun (s9 : Int32 × (Nat → Int32)) => ∀ (H : Heap) (locs : List Loc) (ls : Array Slot), RS G K I J X (ova A [((o + 70), a_asked), ((o + 77), s9.2)]) B Q H → va_S (gA G) s.heap H locs → lv_has ls 4 [(0, .ref o), (1, .int p1), (2, .int w2_2), (3, .int s9.1)] → W p l e ({ frames := 1, cells := 0, slots := 0, locals := 21 } : Room) s m args below meth c H locs 0 0 Z (F0 m 63 ls [])) (r := rl9) ?_ FU _ hw9 _ _ _ hR hS (lv_sub hl [1, 2, 3, 0] rfl)
        clear hR hS hl hf
        intro s9 o9 hf hk9 H locs ls hR hS hl
        obtain ⟨w9_3, w9_a_powers⟩ := s9
        have hf : f1_relieves_s9 p1 a_asked q_y_men mi_power w2_2 w9_3 w9_a_powers = some o9 := hf
        have hR : RS G K I J X (ova A [((o + 70), a_asked), ((o + 77), w9_a_powers)]) B Q H := hR
        have hl : lv_has ls 4 [(0, .ref o), (1, .int p1), (2, .int w2_2), (3, .int w9_3)] := hl
        unfold f1_relieves_s9 at hf
        refine lv_iload_n hx hb dX1_relieves_63 rfl (lv_at hl 3 rfl) ?_
        refine lv_iload_n hx hb dX1_relieves_64 rfl (lv_at hl 1 rfl) ?_
        refine lv_icmp_ge (tgt := 129) hx hb dX1_relieves_65 (by decide) (fun c11 => ?_) (fun c11 => ?_)
        · have hf := ite_t c11 hf
          obtain rfl := some_i hf
          replace hk9 : _ = rl9 := hk9
          subst hk9
          exact hx9_0 w9_a_powers hfo9 _ _ _ hR hS (lv_sub hl [0, 1, 2] rfl)
        · have hf := ite_f c11 hf
          refine lv_aload_n hx hb dX1_relieves_68 rfl (lv_at hl 0 rfl) ?_
          refine g_getr (b := (o + 77)) hx hb hts hown hG hR gFx_X1_157_0 sh_o.1 ((sh_o.2 12 _ rfl).2) dX1_relieves_69 ?_
          refine lv_iload_n hx hb dX1_relieves_72 rfl (lv_at hl 3 rfl) ?_
          refine lv_iload_n hx hb dX1_relieves_73 rfl (lv_at hl 3 rfl) ?_
          refine lv_iload_n hx hb dX1_relieves_74 rfl (lv_at hl 2 rfl) ?_
          refine lv_iload_n hx hb dX1_relieves_75 rfl (lv_at hl 1 rfl) ?_
          obtain ⟨c13, hf⟩ := gd_some hf
          obtain ⟨v12, ev12, hf⟩ := lt_some hf
          refine n_irem hx hb c13 ev12 dX1_relieves_76 ?_
          have hj122 : ∀ (j122_s0 : Int32), f1_relieves_j122 w9_3 w9_a_powers j122_s0 = some o9 → ∀ (H : Heap) (locs : List Loc) (ls : Array Slot), RS G K I J X (ova A [((o + 70), a_asked), ((o + 77), w9_a_powers)]) B Q H → va_S (gA G) s.heap H locs → lv_has ls 4 [(0, .ref o), (1, .int p1), (2, .int w2_2), (3, .int w9_3)] → W p l e ({ frames := 1, cells := 0, slots := 0, locals := 21 } : Room) s m args below meth c H locs 0 0 Z (F0 m 122 ls [.int j122_s0, .int w9_3, .ref (o + 77)]) := by
            intro j122_s0 hf H locs ls hR hS hl
            unfold f1_relieves_j122 at hf
            obtain ⟨c14, hf⟩ := gd_some hf
            obtain ⟨u15, eu15, hf⟩ := lt_some hf
            refine n_iast (la' := [((o + 70), a_asked), ((o + 77), u15)]) hx hb hG hR hS k_a_powers c14 hN_A 1 rfl eu15 rfl dX1_relieves_122 (fun H locs hR hS => ?_)
            obtain ⟨v16, ev16, hf⟩ := lt_some hf
            refine lv_iinc (k := 3) (v := v16) (lv' := [(3, .int v16), (0, .ref o), (1, .int p1), (2, .int w2_2)]) hx hb dX1_relieves_123 hl rfl (by rw [ev16]; rfl) (by decide) rfl (fun ls hl => ?_)
            refine lv_goto (tgt := 63) hx hb dX1_relieves_126 (by decide) ?_
            obtain rfl := some_i hf
            exact hk9 _ _ _ hR hS (lv_sub hl [1, 2, 3, 0] rfl)
          refine lv_icmp_ne (tgt := 91) hx hb dX1_relieves_77 (by decide) (fun c17 => ?_) (fun c17 => ?_)
          · have hf := ite_f c17 hf
            refine lv_aload_n hx hb dX1_relieves_91 rfl (lv_at hl 0 rfl) ?_
            refine g_getr (b := (o + 77)) hx hb hts hown hG hR gFx_X1_157_0 sh_o.1 ((sh_o.2 12 _ rfl).2) dX1_relieves_92 ?_
            refine lv_iload_n hx hb dX1_relieves_95 rfl (lv_at hl 3 rfl) ?_
            obtain ⟨c18, hf⟩ := gd_some hf
            obtain ⟨v19, ev19, hf⟩ := lt_some hf
            refine n_iald (x := w9_a_powers) hx hb hG hR k_a_powers c18 (ova_get 1 hN_A rfl) ev19 dX1_relieves_96 ?_
            refine lv_iconst (v := 1) hx hb dX1_relieves_97 li_1 ?_
            obtain ⟨v20, ev20, hf⟩ := lt_some hf
            refine n_iadd hx hb ev20 dX1_relieves_98 ?_
            refine lv_aload_n hx hb dX1_relieves_99 rfl (lv_at hl 0 rfl) ?_
            refine g_getr (b := (o + 7)) hx hb hts hown hG hR gFx_X1_96_0 sh_o.1 x_o_now dX1_relieves_100 ?_
            refine g_getr (b := y) hx hb hts hown hG hR gFx_X1_241_2 sh_o7 x_o7_yard dX1_relieves_103 ?_
            refine g_getr (b := (y + 1)) hx hb hts hown hG hR gFx_X1_283_3 sh_y.1 ((sh_y.2 0 _ rfl).2) dX1_relieves_106 ?_
            refine lv_aload_n hx hb dX1_relieves_109 rfl (lv_at hl 0 rfl) ?_
            refine g_getr (b := (o + 70)) hx hb hts hown hG hR gFx_X1_135_0 sh_o.1 ((sh_o.2 5 _ rfl).2) dX1_relieves_110 ?_
            refine lv_iload_n hx hb dX1_relieves_113 rfl (lv_at hl 3 rfl) ?_
            obtain ⟨c21, hf⟩ := gd_some hf
            obtain ⟨v22, ev22, hf⟩ := lt_some hf
            refine n_iald (x := a_asked) hx hb hG hR k_a_asked c21 (ova_get 0 hN_A rfl) ev22 dX1_relieves_114 ?_
            obtain ⟨c23, hf⟩ := gd_some hf
            obtain ⟨v24, ev24, hf⟩ := lt_some hf
            refine n_aald (x := q_y_men) (t := 0) hx hb hG hR k_q_y_men (by decide) c23 e_q_y_men ev24 dX1_relieves_115 ?_
            obtain ⟨m25, hm25, hf⟩ := bind_s hf
            obtain ⟨v26, ev26, hf⟩ := lt_some hf
            refine n_some hm25 ?_
            have k_m25 : K m25 = some (.inl 12) := (hman _ _ (ev24 ▸ hm25))
            refine n_geti (v := v26) hx hb hts hown hG hR gFi_X1_295_12 k_m25 ((congrFun e_mi_power m25).trans ev26.symm) dX1_relieves_116 ?_
            obtain ⟨v27, ev27, hf⟩ := lt_some hf
            refine n_mmin hx hb (hml.trans hl.1.symm) hown (hts _ q1291) (hts _ q1183) (hts _ q127) (hts _ q1184) (Nat.le_of_ble_eq_true rfl) (Nat.le_of_ble_eq_true rfl) (Nat.le_refl _) (Nat.le_refl _) ev27 dX1_relieves_119 ?_
            exact hj122 v27 hf _ _ _ hR hS (lv_sub hl [0, 1, 2, 3] rfl)
          · have hf := ite_t c17 hf
            refine lv_aload_n hx hb dX1_relieves_80 rfl (lv_at hl 0 rfl) ?_
            refine g_getr (b := (o + 77)) hx hb hts hown hG hR gFx_X1_157_0 sh_o.1 ((sh_o.2 12 _ rfl).2) dX1_relieves_81 ?_
            refine lv_iload_n hx hb dX1_relieves_84 rfl (lv_at hl 3 rfl) ?_
            obtain ⟨c28, hf⟩ := gd_some hf
            obtain ⟨v29, ev29, hf⟩ := lt_some hf
            refine n_iald (x := w9_a_powers) hx hb hG hR k_a_powers c28 (ova_get 1 hN_A rfl) ev29 dX1_relieves_85 ?_
            refine lv_iconst (v := 3) hx hb dX1_relieves_86 li_3 ?_
            obtain ⟨v30, ev30, hf⟩ := lt_some hf
            refine n_isub hx hb ev30 dX1_relieves_87 ?_
            refine lv_goto (tgt := 122) hx hb dX1_relieves_88 (by decide) ?_
            exact hj122 v30 hf _ _ _ hR hS (lv_sub hl [0, 1, 2, 3] rfl)
      · have hf := ite_f c8 hf
        refine lv_iconst (v := 0) hx hb dX1_relieves_59 li_0 ?_
        obtain rfl := some_i hf
        replace hk2 : _ = rl2 := hk2
        subst hk2
        exact hx2_0 ((0 : Int32), w2_a_powers) hfo2 _ _ _ _ dX1_relieves_60 nz_0 hR hS
  refine whl_walk (P := fun (s1 : Int32 × (Nat → Int32)) => ∀ (H : Heap) (locs : List Loc) (ls : Array Slot), RS G K I J X (ova A [((o + 70), a_asked), ((o + 77), s1.2)]) B Q H → va_S (gA G) s.heap H locs → lv_has ls 4 [(0, .ref o), (1, .int p1), (2, .int s1.1)] → W p l e ({ frames := 1, cells := 0, slots := 0, locals := 21 } : Room) s m args below meth c H locs 0 0 Z (F0 m 2 ls [])) (r := rl1) ?_ FU _ hw1 _ _ _ hR hS (lv_sub hl [1, 2, 0] rfl)
  clear hR hS hl hf
  intro s1 o1 hf hk1 H locs ls hR hS hl
  obtain ⟨w1_2, w1_a_powers⟩ := s1
  have hf : f1_relieves_s1 p1 a_asked q_y_men mi_power w1_2 w1_a_powers = some o1 := hf
  have hR : RS G K I J X (ova A [((o + 70), a_asked), ((o + 77), w1_a_powers)]) B Q H := hR
  have hl : lv_has ls 4 [(0, .ref o), (1, .int p1), (2, .int w1_2)] := hl
  unfold f1_relieves_s1 at hf
  refine lv_iload_n hx hb dX1_relieves_2 rfl (lv_at hl 2 rfl) ?_
  refine lv_iload_n hx hb dX1_relieves_3 rfl (lv_at hl 1 rfl) ?_
  refine lv_icmp_ge (tgt := 39) hx hb dX1_relieves_4 (by decide) (fun c31 => ?_) (fun c31 => ?_)
  · have hf := ite_t c31 hf
    obtain rfl := some_i hf
    replace hk1 : _ = rl1 := hk1
    subst hk1
    exact hx1_0 w1_a_powers hfo1 _ _ _ hR hS (lv_sub hl [0, 1] rfl)
  · have hf := ite_f c31 hf
    refine lv_aload_n hx hb dX1_relieves_7 rfl (lv_at hl 0 rfl) ?_
    refine g_getr (b := (o + 77)) hx hb hts hown hG hR gFx_X1_157_0 sh_o.1 ((sh_o.2 12 _ rfl).2) dX1_relieves_8 ?_
    refine lv_iload_n hx hb dX1_relieves_11 rfl (lv_at hl 2 rfl) ?_
    refine lv_aload_n hx hb dX1_relieves_12 rfl (lv_at hl 0 rfl) ?_
    refine g_getr (b := (o + 7)) hx hb hts hown hG hR gFx_X1_96_0 sh_o.1 x_o_now dX1_relieves_13 ?_
    refine g_getr (b := y) hx hb hts hown hG hR gFx_X1_241_2 sh_o7 x_o7_yard dX1_relieves_16 ?_
    refine g_getr (b := (y + 1)) hx hb hts hown hG hR gFx_X1_283_3 sh_y.1 ((sh_y.2 0 _ rfl).2) dX1_relieves_19 ?_
    refine lv_aload_n hx hb dX1_relieves_22 rfl (lv_at hl 0 rfl) ?_
    refine g_getr (b := (o + 70)) hx hb hts hown hG hR gFx_X1_135_0 sh_o.1 ((sh_o.2 5 _ rfl).2) dX1_relieves_23 ?_
    refine lv_iload_n hx hb dX1_relieves_26 rfl (lv_at hl 2 rfl) ?_
    obtain ⟨c32, hf⟩ := gd_some hf
    obtain ⟨v33, ev33, hf⟩ := lt_some hf
    refine n_iald (x := a_asked) hx hb hG hR k_a_asked c32 (ova_get 0 hN_A rfl) ev33 dX1_relieves_27 ?_
    obtain ⟨c34, hf⟩ := gd_some hf
    obtain ⟨v35, ev35, hf⟩ := lt_some hf
    refine n_aald (x := q_y_men) (t := 0) hx hb hG hR k_q_y_men (by decide) c34 e_q_y_men ev35 dX1_relieves_28 ?_
    obtain ⟨m36, hm36, hf⟩ := bind_s hf
    obtain ⟨v37, ev37, hf⟩ := lt_some hf
    refine n_some hm36 ?_
    have k_m36 : K m36 = some (.inl 12) := (hman _ _ (ev35 ▸ hm36))
    refine n_geti (v := v37) hx hb hts hown hG hR gFi_X1_295_12 k_m36 ((congrFun e_mi_power m36).trans ev37.symm) dX1_relieves_29 ?_
    obtain ⟨c38, hf⟩ := gd_some hf
    obtain ⟨u39, eu39, hf⟩ := lt_some hf
    refine n_iast (la' := [((o + 70), a_asked), ((o + 77), u39)]) hx hb hG hR hS k_a_powers c38 hN_A 1 rfl eu39 rfl dX1_relieves_32 (fun H locs hR hS => ?_)
    obtain ⟨v40, ev40, hf⟩ := lt_some hf
    refine lv_iinc (k := 2) (v := v40) (lv' := [(2, .int v40), (0, .ref o), (1, .int p1)]) hx hb dX1_relieves_33 hl rfl (by rw [ev40]; rfl) (by decide) rfl (fun ls hl => ?_)
    refine lv_goto (tgt := 2) hx hb dX1_relieves_36 (by decide) ?_
    obtain rfl := some_i hf
    exact hk1 _ _ _ hR hS (lv_sub hl [1, 2, 0] rfl)
noncomputable def f1_relief_e4_0 (rr1 : Int32 × Int32) (rr2 : Int32 × Int32 × (Nat → Int32)) (x4_0 : Int32 × (Nat → Int32)) : Option (Int32 × Int32 × Int32 × Int32 × (Nat → Int32) × (Nat → Int32)) :=
  some (x4_0.1, rr1.1, rr1.2, rr2.2.1, rr2.2.2, x4_0.2)

noncomputable def f1_relief_e4_1 (x4_1 : Int32 × Int32 × Int32 × Int32 × (Nat → Int32) × (Nat → Int32)) : Option (Int32 × Int32 × Int32 × Int32 × (Nat → Int32) × (Nat → Int32)) :=
  some x4_1

noncomputable def f1_relief_s4 (q_y_men : Nat → Option Nat) (mi_power : Nat → Int32) (rr1 : Int32 × Int32) (rr2 : Int32 × Int32 × (Nat → Int32)) (w4_1 : Int32) (w4_a_powers : Nat → Int32) : Option ((Int32 × (Nat → Int32)) ⊕ ((Int32 × (Nat → Int32)) ⊕ (Int32 × Int32 × Int32 × Int32 × (Nat → Int32) × (Nat → Int32)))) :=
  if rr2.2.1 < w4_1 then
    some (.inr (.inr ((-1 : Int32), rr1.1, rr1.2, rr2.2.1, rr2.2.2, w4_a_powers)))
  else
    (f1_relieves w4_1 rr2.2.2 w4_a_powers q_y_men mi_power).bind fun rr6 =>
    if rr6.1 = 0 then
      lt (w4_1 + (1 : Int32)) fun v8 =>
      some (.inl (v8, rr6.2))
    else
      some (.inr (.inl (w4_1, rr6.2)))

noncomputable def f1_relief (i_length : Int32) (i_size : Int32) (i_askedMany : Int32) (i_y_manMany : Int32) (a_tape : Nat → Int32) (a_asked : Nat → Int32) (a_powers : Nat → Int32) (q_y_men : Nat → Option Nat) (mi_power : Nat → Int32) : Option (Int32 × Int32 × Int32 × Int32 × (Nat → Int32) × (Nat → Int32)) :=
  (f1_taken i_length i_size).bind fun rr1 =>
  (f1_areAsked (1 : Int32) (12 : Int32) rr1.2 i_askedMany i_y_manMany a_tape a_asked).bind fun rr2 =>
  if rr2.1 = 0 then
    some ((-2 : Int32), rr1.1, rr1.2, rr2.2.1, rr2.2.2, a_powers)
  else
    (whl (fun (s4 : Int32 × (Nat → Int32)) => f1_relief_s4 q_y_men mi_power rr1 rr2 s4.1 s4.2) FU ((1 : Int32), a_powers)).bind fun rl4 =>
    Sum.elim (f1_relief_e4_0 rr1 rr2) (f1_relief_e4_1) rl4
set_option maxHeartbeats 4000000 in
theorem m1_relief (l : Launch) (G : gG) (K : gK) (I : gI) (J : gJ) (X : gX) (A : gI) (B : gJ) (Q : gX) (o : Nat) (y : Nat) (sh_o : Sh K X o 0 rows0) (sh_y : Sh K X y 3 rows3) (sh_o7 : K (o + 7) = some (.inl 2)) (x_o7_yard : X 200 (o + 7) = some y) (x_o_now : X 9 o = some (o + 7))  (i_length : Int32) (i_size : Int32) (i_askedMany : Int32) (i_y_manMany : Int32) (a_tape : Nat → Int32) (a_asked : Nat → Int32) (a_powers : Nat → Int32) (q_y_men : Nat → Option Nat) (mi_power : Nat → Int32) (e_i_length : I 1 o = i_length) (e_i_size : I 2 o = i_size) (e_i_askedMany : I 18 o = i_askedMany) (e_i_y_manMany : I 303 y = i_y_manMany) (e_a_tape : A (o + 1) = a_tape) (e_a_asked : A (o + 70) = a_asked) (e_a_powers : A (o + 77) = a_powers) (e_q_y_men : Q (y + 1) = q_y_men) (e_mi_power : I 1203 = mi_power) (hman : ∀ (j m : Nat), q_y_men j = some m → K m = some (.inl 12)) (out : Int32 × Int32 × Int32 × Int32 × (Nat → Int32) × (Nat → Int32)) (hf : f1_relief i_length i_size i_askedMany i_y_manMany a_tape a_asked a_powers q_y_men mi_power = some out) : GMet l yX1_relief cX1_relief 2 (some .int) (3) (68) G [.ref o] K I J X A B Q (some (.int out.1)) K (ov I [(1, o, out.2.1), (2, o, out.2.2.1), (18, o, out.2.2.2.1)]) J X (ova A [((o + 1), a_tape), ((o + 70), out.2.2.2.2.1), ((o + 77), out.2.2.2.2.2)]) B Q 0 0 := by
  refine GMet.of (y := yX1_relief) rfl (Nat.le_of_ble_eq_true rfl) rfl ?_
  intro p e s m below meth c ls hx hb hr hml hlocks hts hown hname hG hR hl
  have hown : s.vm.findClass RX1 = some m.cls := hown
  have k_a_tape : K (o + 1) = some (.inr (2, 740)) := (sh_o.2 0 _ rfl).1
  have k_a_asked : K (o + 70) = some (.inr (0, 12)) := (sh_o.2 5 _ rfl).1
  have k_a_powers : K (o + 77) = some (.inr (0, 12)) := (sh_o.2 12 _ rfl).1
  have k_q_y_men : K (y + 1) = some (.inr (4, 12)) := (sh_y.2 0 _ rfl).1
  have hN_A : nda [(o + 1), (o + 70), (o + 77)] := nd_off o [1, 70, 77] rfl
  have hR : RS G K (ov I [(1, o, i_length), (2, o, i_size), (18, o, i_askedMany)]) J X (ova A [((o + 1), a_tape), ((o + 70), a_asked), ((o + 77), a_powers)]) B Q s.heap := hR.to (Eq.symm (ov_sc e_i_length (ov_sc e_i_size (ov_sc e_i_askedMany rfl)))) rfl rfl (Eq.symm (ova_sc e_a_tape (ova_sc e_a_asked (ova_sc e_a_powers rfl)))) rfl rfl
  have hS : va_S (gA G) s.heap s.heap [] := va_S.rf
  have hend : ∀ (pc : Nat) (H : Heap) (locs : List Loc) (ls : Array Slot), decode cX1_relief pc = .ok (.ireturn, 1) → RS G K (ov I [(1, o, out.2.1), (2, o, out.2.2.1), (18, o, out.2.2.2.1)]) J X (ova A [((o + 1), a_tape), ((o + 70), out.2.2.2.2.1), ((o + 77), out.2.2.2.2.2)]) B Q H → va_S (gA G) s.heap H locs → W p l e ({ frames := 3, cells := 0, slots := 0, locals := 68 } : Room) s m ([.ref o] : List Value).toArray below meth c H locs 0 0 (MQ below (gQ G (some (.int out.1)) K (ov I [(1, o, out.2.1), (2, o, out.2.2.1), (18, o, out.2.2.2.1)]) J X (ova A [((o + 1), a_tape), ((o + 70), out.2.2.2.2.1), ((o + 77), out.2.2.2.2.2)]) B Q) ([.ref o] : List Value).toArray s 0 0 (gA G)) (F0 m pc ls [.int out.1]) := fun pc H locs ls hd hR hS => g_iret hx hb hr hlocks hG hR hS rfl hd
  generalize MQ below (gQ G (some (.int out.1)) K (ov I [(1, o, out.2.1), (2, o, out.2.2.1), (18, o, out.2.2.2.1)]) J X (ova A [((o + 1), a_tape), ((o + 70), out.2.2.2.2.1), ((o + 77), out.2.2.2.2.2)]) B Q) ([.ref o] : List Value).toArray s 0 0 (gA G) = Z at hend ⊢
  generalize ([.ref o] : List Value).toArray = args at hts hend ⊢
  unfold f1_relief at hf
  refine lv_aload_n hx hb dX1_relief_0 rfl (lv_at hl 0 rfl) ?_
  obtain ⟨rr1, hrr1, hf⟩ := bind_s hf
  refine g0_cVv (rm := (0, 0)) (As := []) (rest := []) ⟨hx, hb, hml, hown, hts⟩ hG hR hS (m1_taken l G K (ov I [(1, o, i_length), (2, o, i_size), (18, o, i_askedMany)]) J X (ova A [((o + 1), a_tape), ((o + 70), a_asked), ((o + 77), a_powers)]) B Q o sh_o i_length i_size (ov_get 0 rfl rfl) (ov_get 1 rfl rfl) rr1 hrr1) (cwV 0 hts gi_X1_228 rfl rfl rfl hd_X1_taken ⟨Nat.le_of_ble_eq_true rfl, Nat.le_of_ble_eq_true rfl⟩) sh_o.1 rfl rfl hl.1 (Nat.le_of_ble_eq_true rfl) dX1_relief_1 ⟨Nat.le_refl _, Nat.le_refl _⟩ rfl (fun H locs hR hS => ?_)
  have hR : RS G K (ov I [(1, o, rr1.1), (2, o, rr1.2), (18, o, i_askedMany)]) J X (ova A [((o + 1), a_tape), ((o + 70), a_asked), ((o + 77), a_powers)]) B Q H := hR.to (ov_merge (l := [(1, o, i_length), (2, o, i_size), (18, o, i_askedMany)]) rfl [0, 1] [(1, o, rr1.1), (2, o, rr1.2)] rfl rfl) rfl rfl rfl rfl rfl
  refine lv_aload_n hx hb dX1_relief_4 rfl (lv_at hl 0 rfl) ?_
  refine lv_iconst (v := 1) hx hb dX1_relief_5 li_1 ?_
  refine lv_bipush (v := 12) hx hb dX1_relief_6 lb_12 ?_
  refine lv_aload_n hx hb dX1_relief_8 rfl (lv_at hl 0 rfl) ?_
  refine n_geti (v := rr1.2) hx hb hts hown hG hR gFi_X1_222_0 sh_o.1 (ov_get 1 rfl rfl) dX1_relief_9 ?_
  obtain ⟨rr2, hrr2, hf⟩ := bind_s hf
  refine g0_cV (rm := (2, 43)) (As := [.int (1 : Int32), .int (12 : Int32), .int rr1.2]) (rest := []) ⟨hx, hb, hml, hown, hts⟩ hG hR hS (m1_areAsked l G K (ov I [(1, o, rr1.1), (2, o, rr1.2), (18, o, i_askedMany)]) J X (ova A [((o + 1), a_tape), ((o + 70), a_asked), ((o + 77), a_powers)]) B Q o y sh_o sh_y sh_o7 x_o7_yard x_o_now (1 : Int32) (12 : Int32) rr1.2 i_askedMany i_y_manMany a_tape a_asked (ov_get 2 rfl rfl) ((congrFun (ov_no rfl) _).trans e_i_y_manMany) (ova_get 0 hN_A rfl) (ova_get 1 hN_A rfl) rr2 hrr2) (cwV 3 hts gi_X1_315 rfl rfl rfl hd_X1_areAsked ⟨Nat.le_of_ble_eq_true rfl, Nat.le_of_ble_eq_true rfl⟩) sh_o.1 rfl rfl hl.1 (Nat.le_of_ble_eq_true rfl) dX1_relief_12 ⟨Nat.le_refl _, Nat.le_refl _⟩ rfl (fun H locs hR hS => ?_)
  have hR : RS G K (ov I [(1, o, rr1.1), (2, o, rr1.2), (18, o, rr2.2.1)]) J X (ova A [((o + 1), a_tape), ((o + 70), rr2.2.2), ((o + 77), a_powers)]) B Q H := hR.to (ov_merge (l := [(1, o, rr1.1), (2, o, rr1.2), (18, o, i_askedMany)]) rfl [2] [(18, o, rr2.2.1)] rfl rfl) rfl rfl (ova_merge (l := [((o + 1), a_tape), ((o + 70), a_asked), ((o + 77), a_powers)]) hN_A [0, 1] [((o + 1), a_tape), ((o + 70), rr2.2.2)] rfl rfl) rfl rfl
  refine lv_if_ne (tgt := 21) hx hb dX1_relief_15 (by decide) (fun c3 => ?_) (fun c3 => ?_)
  · have hf := ite_f c3 hf
    refine lv_iconst (v := 1) hx hb dX1_relief_21 li_1 ?_
    refine lv_istore_n (lv' := [(1, .int (1 : Int32)), (0, .ref o)]) hx hb dX1_relief_22 rfl hl (by decide) rfl (fun ls hl => ?_)
    obtain ⟨rl4, hw4, hfo4⟩ := bind_s hf
    have hx4_0 : ∀ (x4_0 : Int32 × (Nat → Int32)), f1_relief_e4_0 rr1 rr2 x4_0 = some out → ∀ (H : Heap) (locs : List Loc) (ls : Array Slot), RS G K (ov I [(1, o, rr1.1), (2, o, rr1.2), (18, o, rr2.2.1)]) J X (ova A [((o + 1), a_tape), ((o + 70), rr2.2.2), ((o + 77), x4_0.2)]) B Q H → va_S (gA G) s.heap H locs → lv_has ls 2 [(0, .ref o), (1, .int x4_0.1)] → W p l e ({ frames := 3, cells := 0, slots := 0, locals := 68 } : Room) s m args below meth c H locs 0 0 Z (F0 m 39 ls []) := by
      intro x4_0 hf H locs ls hR hS hl
      unfold f1_relief_e4_0 at hf
      refine lv_iload_n hx hb dX1_relief_39 rfl (lv_at hl 1 rfl) ?_
      obtain rfl := some_i hf
      exact hend _ _ _ _ dX1_relief_40 hR hS
    have hx4_1 : ∀ (x4_1 : Int32 × Int32 × Int32 × Int32 × (Nat → Int32) × (Nat → Int32)), f1_relief_e4_1 x4_1 = some out → ∀ (pc : Nat) (H : Heap) (locs : List Loc) (ls : Array Slot), decode cX1_relief pc = .ok (.ireturn, 1) → RS G K (ov I [(1, o, x4_1.2.1), (2, o, x4_1.2.2.1), (18, o, x4_1.2.2.2.1)]) J X (ova A [((o + 1), a_tape), ((o + 70), x4_1.2.2.2.2.1), ((o + 77), x4_1.2.2.2.2.2)]) B Q H → va_S (gA G) s.heap H locs → W p l e ({ frames := 3, cells := 0, slots := 0, locals := 68 } : Room) s m args below meth c H locs 0 0 Z (F0 m pc ls [.int x4_1.1]) := by
      intro x4_1 hf pc H locs ls hd hR hS
      unfold f1_relief_e4_1 at hf
      obtain rfl := some_i hf
      exact hend _ _ _ _ hd hR hS
    refine whl_walk (P := fun (s4 : Int32 × (Nat → Int32)) => ∀ (H : Heap) (locs : List Loc) (ls : Array Slot), RS G K (ov I [(1, o, rr1.1), (2, o, rr1.2), (18, o, rr2.2.1)]) J X (ova A [((o + 1), a_tape), ((o + 70), rr2.2.2), ((o + 77), s4.2)]) B Q H → va_S (gA G) s.heap H locs → lv_has ls 2 [(0, .ref o), (1, .int s4.1)] → W p l e ({ frames := 3, cells := 0, slots := 0, locals := 68 } : Room) s m args below meth c H locs 0 0 Z (F0 m 23 ls [])) (r := rl4) ?_ FU _ hw4 _ _ _ hR hS (lv_sub hl [1, 0] rfl)
    clear hR hS hl hf
    intro s4 o4 hf hk4 H locs ls hR hS hl
    obtain ⟨w4_1, w4_a_powers⟩ := s4
    have hf : f1_relief_s4 q_y_men mi_power rr1 rr2 w4_1 w4_a_powers = some o4 := hf
    have hR : RS G K (ov I [(1, o, rr1.1), (2, o, rr1.2), (18, o, rr2.2.1)]) J X (ova A [((o + 1), a_tape), ((o + 70), rr2.2.2), ((o + 77), w4_a_powers)]) B Q H := hR
    have hl : lv_has ls 2 [(0, .ref o), (1, .int w4_1)] := hl
    unfold f1_relief_s4 at hf
    refine lv_iload_n hx hb dX1_relief_23 rfl (lv_at hl 1 rfl) ?_
    refine lv_aload_n hx hb dX1_relief_24 rfl (lv_at hl 0 rfl) ?_
    refine n_geti (v := rr2.2.1) hx hb hts hown hG hR gFi_X1_308_0 sh_o.1 (ov_get 2 rfl rfl) dX1_relief_25 ?_
    refine lv_icmp_gt (tgt := 47) hx hb dX1_relief_28 (by decide) (fun c5 => ?_) (fun c5 => ?_)
    · have hf := ite_t c5 hf
      refine lv_iconst (v := -1) hx hb dX1_relief_47 li_m1 ?_
      obtain rfl := some_i hf
      replace hk4 : _ = rl4 := hk4
      subst hk4
      exact hx4_1 ((-1 : Int32), rr1.1, rr1.2, rr2.2.1, rr2.2.2, w4_a_powers) (el_r hfo4) _ _ _ _ dX1_relief_48 hR hS
    · have hf := ite_f c5 hf
      refine lv_aload_n hx hb dX1_relief_31 rfl (lv_at hl 0 rfl) ?_
      refine lv_iload_n hx hb dX1_relief_32 rfl (lv_at hl 1 rfl) ?_
      obtain ⟨rr6, hrr6, hf⟩ := bind_s hf
      refine g0_cV (rm := (1, 21)) (As := [.int w4_1]) (rest := []) ⟨hx, hb, hml, hown, hts⟩ hG hR hS (m1_relieves l G K (ov I [(1, o, rr1.1), (2, o, rr1.2), (18, o, rr2.2.1)]) J X (ova A [((o + 1), a_tape), ((o + 70), rr2.2.2), ((o + 77), w4_a_powers)]) B Q o y sh_o sh_y sh_o7 x_o7_yard x_o_now w4_1 rr2.2.2 w4_a_powers q_y_men mi_power (ova_get 1 hN_A rfl) (ova_get 2 hN_A rfl) e_q_y_men ((ov_no rfl).trans e_mi_power) hman rr6 hrr6) (cwV 1 hts gi_X1_406 rfl rfl rfl hd_X1_relieves ⟨Nat.le_of_ble_eq_true rfl, Nat.le_of_ble_eq_true rfl⟩) sh_o.1 rfl rfl hl.1 (Nat.le_of_ble_eq_true rfl) dX1_relief_33 ⟨Nat.le_refl _, Nat.le_refl _⟩ rfl (fun H locs hR hS => ?_)
      have hR : RS G K (ov I [(1, o, rr1.1), (2, o, rr1.2), (18, o, rr2.2.1)]) J X (ova A [((o + 1), a_tape), ((o + 70), rr2.2.2), ((o + 77), rr6.2)]) B Q H := hR.to rfl rfl rfl (ova_merge (l := [((o + 1), a_tape), ((o + 70), rr2.2.2), ((o + 77), w4_a_powers)]) hN_A [1, 2] [((o + 70), rr2.2.2), ((o + 77), rr6.2)] rfl rfl) rfl rfl
      refine lv_if_eq (tgt := 41) hx hb dX1_relief_36 (by decide) (fun c7 => ?_) (fun c7 => ?_)
      · have hf := ite_t c7 hf
        obtain ⟨v8, ev8, hf⟩ := lt_some hf
        refine lv_iinc (k := 1) (v := v8) (lv' := [(1, .int v8), (0, .ref o)]) hx hb dX1_relief_41 hl rfl (by rw [ev8]; rfl) (by decide) rfl (fun ls hl => ?_)
        refine lv_goto (tgt := 23) hx hb dX1_relief_44 (by decide) ?_
        obtain rfl := some_i hf
        exact hk4 _ _ _ hR hS (lv_sub hl [1, 0] rfl)
      · have hf := ite_f c7 hf
        obtain rfl := some_i hf
        replace hk4 : _ = rl4 := hk4
        subst hk4
        exact hx4_0 (w4_1, rr6.2) (el_l hfo4) _ _ _ hR hS (lv_sub hl [0, 1] rfl)
  · have hf := ite_t c3 hf
    refine lv_bipush (v := -2) hx hb dX1_relief_18 lb_m2 ?_
    obtain rfl := some_i hf
    exact hend _ _ _ _ dX1_relief_20 hR hS
noncomputable def f1_wayBy_e1_0 (x1_0 : Int32) : Option (Int32) :=
  some x1_0

noncomputable def f1_wayBy_e3_0 (w1_2 : Int32) (w1_3 : Int32) (x3_0 : Int32) : Option ((Int32 × Int32) ⊕ (Int32)) :=
  lt (if w1_2 < x3_0 then x3_0 else w1_2) fun v4 =>
  lt (w1_3 + (1 : Int32)) fun v5 =>
  some (.inl (v4, v5))

noncomputable def f1_wayBy_s3 (p1 : Int32) (a_tape : Nat → Int32) (a_hooked : Nat → Int32) (w1_3 : Int32) (w3_4 : Int32) (w3_5 : Int32) : Option ((Int32 × Int32) ⊕ (Int32)) :=
  if p1 ≤ w3_5 then
    some (.inr w3_4)
  else
    (f1_one w1_3 a_tape).bind fun rr7 =>
    gd (inb w3_5 6) <|
    lt (a_hooked w3_5.toNatClampNeg) fun v9 =>
    lt (rr7 - v9) fun v10 =>
    lt (if 0 ≤ v10 then v10 else 0 - v10) fun v11 =>
    lt (if v11 < w3_4 then v11 else w3_4) fun v12 =>
    lt (w3_5 + (1 : Int32)) fun v13 =>
    some (.inl (v12, v13))

noncomputable def f1_wayBy_s1 (p1 : Int32) (i_size : Int32) (a_tape : Nat → Int32) (a_hooked : Nat → Int32) (w1_2 : Int32) (w1_3 : Int32) : Option ((Int32 × Int32) ⊕ (Int32)) :=
  if i_size ≤ w1_3 then
    some (.inr w1_2)
  else
    (whl (fun (s3 : Int32 × Int32) => f1_wayBy_s3 p1 a_tape a_hooked w1_3 s3.1 s3.2) FU ((1000000000 : Int32), (0 : Int32))).bind fun rl3 =>
    f1_wayBy_e3_0 w1_2 w1_3 rl3

noncomputable def f1_wayBy (p1 : Int32) (i_size : Int32) (a_tape : Nat → Int32) (a_hooked : Nat → Int32) : Option (Int32) :=
  (whl (fun (s1 : Int32 × Int32) => f1_wayBy_s1 p1 i_size a_tape a_hooked s1.1 s1.2) FU ((0 : Int32), (0 : Int32))).bind fun rl1 =>
  f1_wayBy_e1_0 rl1
set_option maxHeartbeats 4000000 in
theorem m1_wayBy (l : Launch) (G : gG) (K : gK) (I : gI) (J : gJ) (X : gX) (A : gI) (B : gJ) (Q : gX) (o : Nat) (sh_o : Sh K X o 0 rows0) (p1 : Int32) (i_size : Int32) (a_tape : Nat → Int32) (a_hooked : Nat → Int32) (e_i_size : I 2 o = i_size) (e_a_tape : A (o + 1) = a_tape) (e_a_hooked : A (o + 78) = a_hooked) (out : Int32) (hf : f1_wayBy p1 i_size a_tape a_hooked = some out) : GMet l yX1_wayBy cX1_wayBy 6 (some .int) (1) (21) G [.ref o, .int p1] K I J X A B Q (some (.int out)) K I J X A B Q 0 0 := by
  refine GMet.of (y := yX1_wayBy) rfl (Nat.le_of_ble_eq_true rfl) rfl ?_
  intro p e s m below meth c ls hx hb hr hml hlocks hts hown hname hG hR hl
  have hown : s.vm.findClass RX1 = some m.cls := hown
  have k_a_tape : K (o + 1) = some (.inr (2, 740)) := (sh_o.2 0 _ rfl).1
  have k_a_hooked : K (o + 78) = some (.inr (0, 6)) := (sh_o.2 13 _ rfl).1
  have hR : RS G K I J X A B Q s.heap := hR.to rfl rfl rfl rfl rfl rfl
  have hS : va_S (gA G) s.heap s.heap [] := va_S.rf
  have hend : ∀ (pc : Nat) (H : Heap) (locs : List Loc) (ls : Array Slot), decode cX1_wayBy pc = .ok (.ireturn, 1) → RS G K I J X A B Q H → va_S (gA G) s.heap H locs → W p l e ({ frames := 1, cells := 0, slots := 0, locals := 21 } : Room) s m ([.ref o, .int p1] : List Value).toArray below meth c H locs 0 0 (MQ below (gQ G (some (.int out)) K I J X A B Q) ([.ref o, .int p1] : List Value).toArray s 0 0 (gA G)) (F0 m pc ls [.int out]) := fun pc H locs ls hd hR hS => g_iret hx hb hr hlocks hG hR hS rfl hd
  generalize MQ below (gQ G (some (.int out)) K I J X A B Q) ([.ref o, .int p1] : List Value).toArray s 0 0 (gA G) = Z at hend ⊢
  generalize ([.ref o, .int p1] : List Value).toArray = args at hts hend ⊢
  unfold f1_wayBy at hf
  refine lv_iconst (v := 0) hx hb dX1_wayBy_0 li_0 ?_
  refine lv_istore_n (lv' := [(2, .int (0 : Int32)), (0, .ref o), (1, .int p1)]) hx hb dX1_wayBy_1 rfl hl (by decide) rfl (fun ls hl => ?_)
  refine lv_iconst (v := 0) hx hb dX1_wayBy_2 li_0 ?_
  refine lv_istore_n (lv' := [(3, .int (0 : Int32)), (2, .int (0 : Int32)), (0, .ref o), (1, .int p1)]) hx hb dX1_wayBy_3 rfl hl (by decide) rfl (fun ls hl => ?_)
  obtain ⟨rl1, hw1, hfo1⟩ := bind_s hf
  have hx1_0 : ∀ (x1_0 : Int32), f1_wayBy_e1_0 x1_0 = some out → ∀ (H : Heap) (locs : List Loc) (ls : Array Slot), RS G K I J X A B Q H → va_S (gA G) s.heap H locs → lv_has ls 6 [(0, .ref o), (2, .int x1_0)] → W p l e ({ frames := 1, cells := 0, slots := 0, locals := 21 } : Room) s m args below meth c H locs 0 0 Z (F0 m 68 ls []) := by
    intro x1_0 hf H locs ls hR hS hl
    unfold f1_wayBy_e1_0 at hf
    refine lv_iload_n hx hb dX1_wayBy_68 rfl (lv_at hl 1 rfl) ?_
    obtain rfl := some_i hf
    exact hend _ _ _ _ dX1_wayBy_69 hR hS
  refine whl_walk (P := fun (s1 : Int32 × Int32) => ∀ (H : Heap) (locs : List Loc) (ls : Array Slot), RS G K I J X A B Q H → va_S (gA G) s.heap H locs → lv_has ls 6 [(0, .ref o), (1, .int p1), (2, .int s1.1), (3, .int s1.2)] → W p l e ({ frames := 1, cells := 0, slots := 0, locals := 21 } : Room) s m args below meth c H locs 0 0 Z (F0 m 4 ls [])) (r := rl1) ?_ FU _ hw1 _ _ _ hR hS (lv_sub hl [2, 3, 1, 0] rfl)
  clear hR hS hl hf
  intro s1 o1 hf hk1 H locs ls hR hS hl
  obtain ⟨w1_2, w1_3⟩ := s1
  have hf : f1_wayBy_s1 p1 i_size a_tape a_hooked w1_2 w1_3 = some o1 := hf
  have hR : RS G K I J X A B Q H := hR
  have hl : lv_has ls 6 [(0, .ref o), (1, .int p1), (2, .int w1_2), (3, .int w1_3)] := hl
  unfold f1_wayBy_s1 at hf
  refine lv_iload_n hx hb dX1_wayBy_4 rfl (lv_at hl 3 rfl) ?_
  refine lv_aload_n hx hb dX1_wayBy_5 rfl (lv_at hl 0 rfl) ?_
  refine n_geti (v := i_size) hx hb hts hown hG hR gFi_X1_222_0 sh_o.1 e_i_size dX1_wayBy_6 ?_
  refine lv_icmp_ge (tgt := 68) hx hb dX1_wayBy_9 (by decide) (fun c2 => ?_) (fun c2 => ?_)
  · have hf := ite_t c2 hf
    obtain rfl := some_i hf
    replace hk1 : _ = rl1 := hk1
    subst hk1
    exact hx1_0 w1_2 hfo1 _ _ _ hR hS (lv_sub hl [0, 2] rfl)
  · have hf := ite_f c2 hf
    refine lv_ldcw hx hb hown (hts _ q1231) dX1_wayBy_12 ?_
    refine lv_istore (lv' := [(4, .int (1000000000 : Int32)), (0, .ref o), (1, .int p1), (2, .int w1_2), (3, .int w1_3)]) hx hb dX1_wayBy_15 hl (by decide) rfl (fun ls hl => ?_)
    refine lv_iconst (v := 0) hx hb dX1_wayBy_17 li_0 ?_
    refine lv_istore (lv' := [(5, .int (0 : Int32)), (4, .int (1000000000 : Int32)), (0, .ref o), (1, .int p1), (2, .int w1_2), (3, .int w1_3)]) hx hb dX1_wayBy_18 hl (by decide) rfl (fun ls hl => ?_)
    obtain ⟨rl3, hw3, hfo3⟩ := bind_s hf
    have hx3_0 : ∀ (x3_0 : Int32), f1_wayBy_e3_0 w1_2 w1_3 x3_0 = some o1 → ∀ (H : Heap) (locs : List Loc) (ls : Array Slot), RS G K I J X A B Q H → va_S (gA G) s.heap H locs → lv_has ls 6 [(0, .ref o), (1, .int p1), (2, .int w1_2), (3, .int w1_3), (4, .int x3_0)] → W p l e ({ frames := 1, cells := 0, slots := 0, locals := 21 } : Room) s m args below meth c H locs 0 0 Z (F0 m 55 ls []) := by
      intro x3_0 hf H locs ls hR hS hl
      unfold f1_wayBy_e3_0 at hf
      refine lv_iload_n hx hb dX1_wayBy_55 rfl (lv_at hl 2 rfl) ?_
      refine lv_iload hx hb dX1_wayBy_56 (lv_at hl 4 rfl) ?_
      obtain ⟨v4, ev4, hf⟩ := lt_some hf
      refine n_mmax hx hb (hml.trans hl.1.symm) hown (hts _ q1307) (hts _ q1186) (hts _ q127) (hts _ q1187) (Nat.le_of_ble_eq_true rfl) (Nat.le_of_ble_eq_true rfl) (Nat.le_refl _) (Nat.le_refl _) ev4 dX1_wayBy_58 ?_
      refine lv_istore_n (lv' := [(2, .int v4), (0, .ref o), (1, .int p1), (3, .int w1_3), (4, .int x3_0)]) hx hb dX1_wayBy_61 rfl hl (by decide) rfl (fun ls hl => ?_)
      obtain ⟨v5, ev5, hf⟩ := lt_some hf
      refine lv_iinc (k := 3) (v := v5) (lv' := [(3, .int v5), (2, .int v4), (0, .ref o), (1, .int p1), (4, .int x3_0)]) hx hb dX1_wayBy_62 hl rfl (by rw [ev5]; rfl) (by decide) rfl (fun ls hl => ?_)
      refine lv_goto (tgt := 4) hx hb dX1_wayBy_65 (by decide) ?_
      obtain rfl := some_i hf
      exact hk1 _ _ _ hR hS (lv_sub hl [2, 3, 1, 0] rfl)
    refine whl_walk (P := fun (s3 : Int32 × Int32) => ∀ (H : Heap) (locs : List Loc) (ls : Array Slot), RS G K I J X A B Q H → va_S (gA G) s.heap H locs → lv_has ls 6 [(0, .ref o), (1, .int p1), (2, .int w1_2), (3, .int w1_3), (4, .int s3.1), (5, .int s3.2)] → W p l e ({ frames := 1, cells := 0, slots := 0, locals := 21 } : Room) s m args below meth c H locs 0 0 Z (F0 m 20 ls [])) (r := rl3) ?_ FU _ hw3 _ _ _ hR hS (lv_sub hl [2, 3, 4, 5, 1, 0] rfl)
    clear hR hS hl hf
    intro s3 o3 hf hk3 H locs ls hR hS hl
    obtain ⟨w3_4, w3_5⟩ := s3
    have hf : f1_wayBy_s3 p1 a_tape a_hooked w1_3 w3_4 w3_5 = some o3 := hf
    have hR : RS G K I J X A B Q H := hR
    have hl : lv_has ls 6 [(0, .ref o), (1, .int p1), (2, .int w1_2), (3, .int w1_3), (4, .int w3_4), (5, .int w3_5)] := hl
    unfold f1_wayBy_s3 at hf
    refine lv_iload hx hb dX1_wayBy_20 (lv_at hl 5 rfl) ?_
    refine lv_iload_n hx hb dX1_wayBy_22 rfl (lv_at hl 1 rfl) ?_
    refine lv_icmp_ge (tgt := 55) hx hb dX1_wayBy_23 (by decide) (fun c6 => ?_) (fun c6 => ?_)
    · have hf := ite_t c6 hf
      obtain rfl := some_i hf
      replace hk3 : _ = rl3 := hk3
      subst hk3
      exact hx3_0 w3_4 hfo3 _ _ _ hR hS (lv_sub hl [0, 1, 2, 3, 4] rfl)
    · have hf := ite_f c6 hf
      refine lv_iload hx hb dX1_wayBy_26 (lv_at hl 4 rfl) ?_
      refine lv_aload_n hx hb dX1_wayBy_28 rfl (lv_at hl 0 rfl) ?_
      refine lv_iload_n hx hb dX1_wayBy_29 rfl (lv_at hl 3 rfl) ?_
      obtain ⟨rr7, hrr7, hf⟩ := bind_s hf
      refine g0_cV (rm := (0, 0)) (As := [.int w1_3]) (rest := [.int w3_4]) ⟨hx, hb, hml, hown, hts⟩ hG hR hS (m1_one l G K I J X A B Q o sh_o w1_3 a_tape e_a_tape rr7 hrr7) (cwV 1 hts gi_X1_311 rfl rfl rfl hd_X1_one ⟨Nat.le_of_ble_eq_true rfl, Nat.le_of_ble_eq_true rfl⟩) sh_o.1 rfl rfl hl.1 (Nat.le_of_ble_eq_true rfl) dX1_wayBy_30 ⟨Nat.le_refl _, Nat.le_refl _⟩ rfl (fun H locs hR hS => ?_)
      refine lv_aload_n hx hb dX1_wayBy_33 rfl (lv_at hl 0 rfl) ?_
      refine g_getr (b := (o + 78)) hx hb hts hown hG hR gFx_X1_160_0 sh_o.1 ((sh_o.2 13 _ rfl).2) dX1_wayBy_34 ?_
      refine lv_iload hx hb dX1_wayBy_37 (lv_at hl 5 rfl) ?_
      obtain ⟨c8, hf⟩ := gd_some hf
      obtain ⟨v9, ev9, hf⟩ := lt_some hf
      refine n_iald (x := a_hooked) hx hb hG hR k_a_hooked c8 e_a_hooked ev9 dX1_wayBy_39 ?_
      obtain ⟨v10, ev10, hf⟩ := lt_some hf
      refine n_isub hx hb ev10 dX1_wayBy_40 ?_
      obtain ⟨v11, ev11, hf⟩ := lt_some hf
      refine n_mabs hx hb (hml.trans hl.1.symm) hown (hts _ q1304) (hts _ q1305) (hts _ q127) (hts _ q1306) (Nat.le_of_ble_eq_true rfl) (Nat.le_of_ble_eq_true rfl) (Nat.le_refl _) (Nat.le_refl _) ev11 dX1_wayBy_41 ?_
      obtain ⟨v12, ev12, hf⟩ := lt_some hf
      refine n_mmin hx hb (hml.trans hl.1.symm) hown (hts _ q1291) (hts _ q1183) (hts _ q127) (hts _ q1184) (Nat.le_of_ble_eq_true rfl) (Nat.le_of_ble_eq_true rfl) (Nat.le_refl _) (Nat.le_refl _) ev12 dX1_wayBy_44 ?_
      refine lv_istore (lv' := [(4, .int v12), (0, .ref o), (1, .int p1), (2, .int w1_2), (3, .int w1_3), (5, .int w3_5)]) hx hb dX1_wayBy_47 hl (by decide) rfl (fun ls hl => ?_)
      obtain ⟨v13, ev13, hf⟩ := lt_some hf
      refine lv_iinc (k := 5) (v := v13) (lv' := [(5, .int v13), (4, .int v12), (0, .ref o), (1, .int p1), (2, .int w1_2), (3, .int w1_3)]) hx hb dX1_wayBy_49 hl rfl (by rw [ev13]; rfl) (by decide) rfl (fun ls hl => ?_)
      refine lv_goto (tgt := 20) hx hb dX1_wayBy_52 (by decide) ?_
      obtain rfl := some_i hf
      exact hk3 _ _ _ hR hS (lv_sub hl [2, 3, 4, 5, 1, 0] rfl)
noncomputable def f1_hookAt (p1 : Int32) (i_hookMany : Int32) (a_bestHooks : Nat → Int32) : Option (Int32) :=
  lt (i_hookMany - (1 : Int32)) fun v1 =>
  (f1_isIn p1 (0 : Int32) v1).bind fun rr2 =>
  if rr2 = 0 then
    some (-1 : Int32)
  else
    gd (inb p1 6) <|
    lt (a_bestHooks p1.toNatClampNeg) fun v5 =>
    some v5
set_option maxHeartbeats 4000000 in
theorem m1_hookAt (l : Launch) (G : gG) (K : gK) (I : gI) (J : gJ) (X : gX) (A : gI) (B : gJ) (Q : gX) (o : Nat) (sh_o : Sh K X o 0 rows0) (p1 : Int32) (i_hookMany : Int32) (a_bestHooks : Nat → Int32) (e_i_hookMany : I 33 o = i_hookMany) (e_a_bestHooks : A (o + 79) = a_bestHooks) (out : Int32) (hf : f1_hookAt p1 i_hookMany a_bestHooks = some out) : GMet l yX1_hookAt cX1_hookAt 2 (some .int) (1) (22) G [.ref o, .int p1] K I J X A B Q (some (.int out)) K I J X A B Q 0 0 := by
  refine GMet.of (y := yX1_hookAt) rfl (Nat.le_of_ble_eq_true rfl) rfl ?_
  intro p e s m below meth c ls hx hb hr hml hlocks hts hown hname hG hR hl
  have hown : s.vm.findClass RX1 = some m.cls := hown
  have k_a_bestHooks : K (o + 79) = some (.inr (0, 6)) := (sh_o.2 14 _ rfl).1
  have hR : RS G K I J X A B Q s.heap := hR.to rfl rfl rfl rfl rfl rfl
  have hS : va_S (gA G) s.heap s.heap [] := va_S.rf
  have hend : ∀ (pc : Nat) (H : Heap) (locs : List Loc) (ls : Array Slot), decode cX1_hookAt pc = .ok (.ireturn, 1) → RS G K I J X A B Q H → va_S (gA G) s.heap H locs → W p l e ({ frames := 1, cells := 0, slots := 0, locals := 22 } : Room) s m ([.ref o, .int p1] : List Value).toArray below meth c H locs 0 0 (MQ below (gQ G (some (.int out)) K I J X A B Q) ([.ref o, .int p1] : List Value).toArray s 0 0 (gA G)) (F0 m pc ls [.int out]) := fun pc H locs ls hd hR hS => g_iret hx hb hr hlocks hG hR hS rfl hd
  generalize MQ below (gQ G (some (.int out)) K I J X A B Q) ([.ref o, .int p1] : List Value).toArray s 0 0 (gA G) = Z at hend ⊢
  generalize ([.ref o, .int p1] : List Value).toArray = args at hts hend ⊢
  unfold f1_hookAt at hf
  refine lv_iload_n hx hb dX1_hookAt_0 rfl (lv_at hl 1 rfl) ?_
  refine lv_iconst (v := 0) hx hb dX1_hookAt_1 li_0 ?_
  refine lv_aload_n hx hb dX1_hookAt_2 rfl (lv_at hl 0 rfl) ?_
  refine n_geti (v := i_hookMany) hx hb hts hown hG hR gFi_X1_421_0 sh_o.1 e_i_hookMany dX1_hookAt_3 ?_
  refine lv_iconst (v := 1) hx hb dX1_hookAt_6 li_1 ?_
  obtain ⟨v1, ev1, hf⟩ := lt_some hf
  refine n_isub hx hb ev1 dX1_hookAt_7 ?_
  obtain ⟨rr2, hrr2, hf⟩ := bind_s hf
  refine g0_cS (rm := (0, 0)) (As := [.int p1, .int (0 : Int32), .int v1]) (rest := []) ⟨hx, hb, hml, hown, hts⟩ hG hR hS (m1_isIn l G K I J X A B Q p1 (0 : Int32) v1 rr2 hrr2) (cwS 3 hts gi_X1_271 rfl rfl rfl hd_X1_isIn ⟨Nat.le_of_ble_eq_true rfl, Nat.le_of_ble_eq_true rfl⟩) rfl hl.1 (Nat.le_of_ble_eq_true rfl) dX1_hookAt_8 ⟨Nat.le_refl _, Nat.le_refl _⟩ rfl (fun H locs hR hS => ?_)
  refine lv_if_eq (tgt := 23) hx hb dX1_hookAt_11 (by decide) (fun c3 => ?_) (fun c3 => ?_)
  · have hf := ite_t c3 hf
    refine lv_iconst (v := -1) hx hb dX1_hookAt_23 li_m1 ?_
    obtain rfl := some_i hf
    exact hend _ _ _ _ dX1_hookAt_24 hR hS
  · have hf := ite_f c3 hf
    refine lv_aload_n hx hb dX1_hookAt_14 rfl (lv_at hl 0 rfl) ?_
    refine g_getr (b := (o + 79)) hx hb hts hown hG hR gFx_X1_163_0 sh_o.1 ((sh_o.2 14 _ rfl).2) dX1_hookAt_15 ?_
    refine lv_iload_n hx hb dX1_hookAt_18 rfl (lv_at hl 1 rfl) ?_
    obtain ⟨c4, hf⟩ := gd_some hf
    obtain ⟨v5, ev5, hf⟩ := lt_some hf
    refine n_iald (x := a_bestHooks) hx hb hG hR k_a_bestHooks c4 e_a_bestHooks ev5 dX1_hookAt_19 ?_
    refine lv_goto (tgt := 24) hx hb dX1_hookAt_20 (by decide) ?_
    obtain rfl := some_i hf
    exact hend _ _ _ _ dX1_hookAt_24 hR hS
noncomputable def f1_out (i_hasFire : Int32) (i_outAt : Int32) : Option (Int32) :=
  if i_hasFire = 0 then
    some (-1 : Int32)
  else
    some i_outAt
set_option maxHeartbeats 4000000 in
theorem m1_out (l : Launch) (G : gG) (K : gK) (I : gI) (J : gJ) (X : gX) (A : gI) (B : gJ) (Q : gX) (o : Nat) (sh_o : Sh K X o 0 rows0)  (i_hasFire : Int32) (i_outAt : Int32) (e_i_hasFire : I 38 o = i_hasFire) (e_i_outAt : I 39 o = i_outAt) (out : Int32) (hf : f1_out i_hasFire i_outAt = some out) : GMet l yX1_out cX1_out 1 (some .int) (0) (0) G [.ref o] K I J X A B Q (some (.int out)) K I J X A B Q 0 0 := by
  refine GMet.of (y := yX1_out) rfl (Nat.le_of_ble_eq_true rfl) rfl ?_
  intro p e s m below meth c ls hx hb hr hml hlocks hts hown hname hG hR hl
  have hown : s.vm.findClass RX1 = some m.cls := hown
  have hR : RS G K I J X A B Q s.heap := hR.to rfl rfl rfl rfl rfl rfl
  have hS : va_S (gA G) s.heap s.heap [] := va_S.rf
  have hend : ∀ (pc : Nat) (H : Heap) (locs : List Loc) (ls : Array Slot), decode cX1_out pc = .ok (.ireturn, 1) → RS G K I J X A B Q H → va_S (gA G) s.heap H locs → W p l e ({ frames := 0, cells := 0, slots := 0, locals := 0 } : Room) s m ([.ref o] : List Value).toArray below meth c H locs 0 0 (MQ below (gQ G (some (.int out)) K I J X A B Q) ([.ref o] : List Value).toArray s 0 0 (gA G)) (F0 m pc ls [.int out]) := fun pc H locs ls hd hR hS => g_iret hx hb hr hlocks hG hR hS rfl hd
  generalize MQ below (gQ G (some (.int out)) K I J X A B Q) ([.ref o] : List Value).toArray s 0 0 (gA G) = Z at hend ⊢
  generalize ([.ref o] : List Value).toArray = args at hts hend ⊢
  unfold f1_out at hf
  refine lv_aload_n hx hb dX1_out_0 rfl (lv_at hl 0 rfl) ?_
  refine n_geti (v := i_hasFire) hx hb hts hown hG hR gFi_X1_442_0 sh_o.1 e_i_hasFire dX1_out_1 ?_
  refine lv_if_eq (tgt := 14) hx hb dX1_out_4 (by decide) (fun c1 => ?_) (fun c1 => ?_)
  · have hf := ite_t c1 hf
    refine lv_iconst (v := -1) hx hb dX1_out_14 li_m1 ?_
    obtain rfl := some_i hf
    exact hend _ _ _ _ dX1_out_15 hR hS
  · have hf := ite_f c1 hf
    refine lv_aload_n hx hb dX1_out_7 rfl (lv_at hl 0 rfl) ?_
    refine n_geti (v := i_outAt) hx hb hts hown hG hR gFi_X1_447_0 sh_o.1 e_i_outAt dX1_out_8 ?_
    refine lv_goto (tgt := 15) hx hb dX1_out_11 (by decide) ?_
    obtain rfl := some_i hf
    exact hend _ _ _ _ dX1_out_15 hR hS
noncomputable def f1_aimAt (p1 : Int32) (i_aimMany : Int32) (a_bestAims : Nat → Int32) : Option (Int32) :=
  lt (i_aimMany - (1 : Int32)) fun v1 =>
  (f1_isIn p1 (0 : Int32) v1).bind fun rr2 =>
  if rr2 = 0 then
    some (-1 : Int32)
  else
    gd (inb p1 3) <|
    lt (a_bestAims p1.toNatClampNeg) fun v5 =>
    some v5
set_option maxHeartbeats 4000000 in
theorem m1_aimAt (l : Launch) (G : gG) (K : gK) (I : gI) (J : gJ) (X : gX) (A : gI) (B : gJ) (Q : gX) (o : Nat) (sh_o : Sh K X o 0 rows0) (p1 : Int32) (i_aimMany : Int32) (a_bestAims : Nat → Int32) (e_i_aimMany : I 43 o = i_aimMany) (e_a_bestAims : A (o + 113) = a_bestAims) (out : Int32) (hf : f1_aimAt p1 i_aimMany a_bestAims = some out) : GMet l yX1_aimAt cX1_aimAt 2 (some .int) (1) (22) G [.ref o, .int p1] K I J X A B Q (some (.int out)) K I J X A B Q 0 0 := by
  refine GMet.of (y := yX1_aimAt) rfl (Nat.le_of_ble_eq_true rfl) rfl ?_
  intro p e s m below meth c ls hx hb hr hml hlocks hts hown hname hG hR hl
  have hown : s.vm.findClass RX1 = some m.cls := hown
  have k_a_bestAims : K (o + 113) = some (.inr (0, 3)) := (sh_o.2 18 _ rfl).1
  have hR : RS G K I J X A B Q s.heap := hR.to rfl rfl rfl rfl rfl rfl
  have hS : va_S (gA G) s.heap s.heap [] := va_S.rf
  have hend : ∀ (pc : Nat) (H : Heap) (locs : List Loc) (ls : Array Slot), decode cX1_aimAt pc = .ok (.ireturn, 1) → RS G K I J X A B Q H → va_S (gA G) s.heap H locs → W p l e ({ frames := 1, cells := 0, slots := 0, locals := 22 } : Room) s m ([.ref o, .int p1] : List Value).toArray below meth c H locs 0 0 (MQ below (gQ G (some (.int out)) K I J X A B Q) ([.ref o, .int p1] : List Value).toArray s 0 0 (gA G)) (F0 m pc ls [.int out]) := fun pc H locs ls hd hR hS => g_iret hx hb hr hlocks hG hR hS rfl hd
  generalize MQ below (gQ G (some (.int out)) K I J X A B Q) ([.ref o, .int p1] : List Value).toArray s 0 0 (gA G) = Z at hend ⊢
  generalize ([.ref o, .int p1] : List Value).toArray = args at hts hend ⊢
  unfold f1_aimAt at hf
  refine lv_iload_n hx hb dX1_aimAt_0 rfl (lv_at hl 1 rfl) ?_
  refine lv_iconst (v := 0) hx hb dX1_aimAt_1 li_0 ?_
  refine lv_aload_n hx hb dX1_aimAt_2 rfl (lv_at hl 0 rfl) ?_
  refine n_geti (v := i_aimMany) hx hb hts hown hG hR gFi_X1_475_0 sh_o.1 e_i_aimMany dX1_aimAt_3 ?_
  refine lv_iconst (v := 1) hx hb dX1_aimAt_6 li_1 ?_
  obtain ⟨v1, ev1, hf⟩ := lt_some hf
  refine n_isub hx hb ev1 dX1_aimAt_7 ?_
  obtain ⟨rr2, hrr2, hf⟩ := bind_s hf
  refine g0_cS (rm := (0, 0)) (As := [.int p1, .int (0 : Int32), .int v1]) (rest := []) ⟨hx, hb, hml, hown, hts⟩ hG hR hS (m1_isIn l G K I J X A B Q p1 (0 : Int32) v1 rr2 hrr2) (cwS 3 hts gi_X1_271 rfl rfl rfl hd_X1_isIn ⟨Nat.le_of_ble_eq_true rfl, Nat.le_of_ble_eq_true rfl⟩) rfl hl.1 (Nat.le_of_ble_eq_true rfl) dX1_aimAt_8 ⟨Nat.le_refl _, Nat.le_refl _⟩ rfl (fun H locs hR hS => ?_)
  refine lv_if_eq (tgt := 23) hx hb dX1_aimAt_11 (by decide) (fun c3 => ?_) (fun c3 => ?_)
  · have hf := ite_t c3 hf
    refine lv_iconst (v := -1) hx hb dX1_aimAt_23 li_m1 ?_
    obtain rfl := some_i hf
    exact hend _ _ _ _ dX1_aimAt_24 hR hS
  · have hf := ite_f c3 hf
    refine lv_aload_n hx hb dX1_aimAt_14 rfl (lv_at hl 0 rfl) ?_
    refine g_getr (b := (o + 113)) hx hb hts hown hG hR gFx_X1_186_0 sh_o.1 ((sh_o.2 18 _ rfl).2) dX1_aimAt_15 ?_
    refine lv_iload_n hx hb dX1_aimAt_18 rfl (lv_at hl 1 rfl) ?_
    obtain ⟨c4, hf⟩ := gd_some hf
    obtain ⟨v5, ev5, hf⟩ := lt_some hf
    refine n_iald (x := a_bestAims) hx hb hG hR k_a_bestAims c4 e_a_bestAims ev5 dX1_aimAt_19 ?_
    refine lv_goto (tgt := 24) hx hb dX1_aimAt_20 (by decide) ?_
    obtain rfl := some_i hf
    exact hend _ _ _ _ dX1_aimAt_24 hR hS
noncomputable def f1_count (p1 : Int32) (i_length : Int32) (i_y_manMany : Int32) (i_y_columns : Int32) (i_y_rows : Int32) (i_y_way : Int32) (i_y_pails : Int32) (i_pl_many : Int32) : Option (Int32) :=
  if p1 = 0 then
    some i_y_manMany
  else
  if p1 = 1 then
    some i_y_columns
  else
  if p1 = 2 then
    some i_y_rows
  else
  if p1 = 3 then
    some i_y_pails
  else
  if p1 = 4 then
    some i_pl_many
  else
  if p1 = 5 then
    some i_length
  else
  if p1 = 6 then
    some i_y_way
  else
  some (-1 : Int32)
set_option maxHeartbeats 4000000 in
theorem m1_count (l : Launch) (G : gG) (K : gK) (I : gI) (J : gJ) (X : gX) (A : gI) (B : gJ) (Q : gX) (o : Nat) (y : Nat) (pl : Nat) (sh_o : Sh K X o 0 rows0) (sh_y : Sh K X y 3 rows3) (sh_pl : K pl = some (.inl 4)) (sh_o7 : K (o + 7) = some (.inl 2)) (x_o7_yard : X 200 (o + 7) = some y) (x_o7_plan : X 201 (o + 7) = some pl) (x_o_now : X 9 o = some (o + 7)) (p1 : Int32) (i_length : Int32) (i_y_manMany : Int32) (i_y_columns : Int32) (i_y_rows : Int32) (i_y_way : Int32) (i_y_pails : Int32) (i_pl_many : Int32) (e_i_length : I 1 o = i_length) (e_i_y_manMany : I 303 y = i_y_manMany) (e_i_y_columns : I 304 y = i_y_columns) (e_i_y_rows : I 305 y = i_y_rows) (e_i_y_way : I 306 y = i_y_way) (e_i_y_pails : I 307 y = i_y_pails) (e_i_pl_many : I 401 pl = i_pl_many) (out : Int32) (hf : f1_count p1 i_length i_y_manMany i_y_columns i_y_rows i_y_way i_y_pails i_pl_many = some out) : GMet l yX1_count cX1_count 2 (some .int) (0) (0) G [.ref o, .int p1] K I J X A B Q (some (.int out)) K I J X A B Q 0 0 := by
  refine GMet.of (y := yX1_count) rfl (Nat.le_of_ble_eq_true rfl) rfl ?_
  intro p e s m below meth c ls hx hb hr hml hlocks hts hown hname hG hR hl
  have hown : s.vm.findClass RX1 = some m.cls := hown
  have hR : RS G K I J X A B Q s.heap := hR.to rfl rfl rfl rfl rfl rfl
  have hS : va_S (gA G) s.heap s.heap [] := va_S.rf
  have hend : ∀ (pc : Nat) (H : Heap) (locs : List Loc) (ls : Array Slot), decode cX1_count pc = .ok (.ireturn, 1) → RS G K I J X A B Q H → va_S (gA G) s.heap H locs → W p l e ({ frames := 0, cells := 0, slots := 0, locals := 0 } : Room) s m ([.ref o, .int p1] : List Value).toArray below meth c H locs 0 0 (MQ below (gQ G (some (.int out)) K I J X A B Q) ([.ref o, .int p1] : List Value).toArray s 0 0 (gA G)) (F0 m pc ls [.int out]) := fun pc H locs ls hd hR hS => g_iret hx hb hr hlocks hG hR hS rfl hd
  generalize MQ below (gQ G (some (.int out)) K I J X A B Q) ([.ref o, .int p1] : List Value).toArray s 0 0 (gA G) = Z at hend ⊢
  generalize ([.ref o, .int p1] : List Value).toArray = args at hts hend ⊢
  unfold f1_count at hf
  refine lv_iload_n hx hb dX1_count_0 rfl (lv_at hl 1 rfl) ?_
  by_cases c1 : p1 = 0
  · have hf := ite_t c1 hf
    refine lv_tableIn (tgt := 44) hx hb dX1_count_1 (by rw [c1]; decide) (by rw [c1]; decide) (off := 43) (by rw [c1]; rfl) (by decide) ?_
    refine lv_aload_n hx hb dX1_count_44 rfl (lv_at hl 0 rfl) ?_
    refine g_getr (b := (o + 7)) hx hb hts hown hG hR gFx_X1_96_0 sh_o.1 x_o_now dX1_count_45 ?_
    refine g_getr (b := y) hx hb hts hown hG hR gFx_X1_241_2 sh_o7 x_o7_yard dX1_count_48 ?_
    refine n_geti (v := i_y_manMany) hx hb hts hown hG hR gFi_X1_268_3 sh_y.1 e_i_y_manMany dX1_count_51 ?_
    obtain rfl := some_i hf
    exact hend _ _ _ _ dX1_count_54 hR hS
  have hf := ite_f c1 hf
  by_cases c2 : p1 = 1
  · have hf := ite_t c2 hf
    refine lv_tableIn (tgt := 55) hx hb dX1_count_1 (by rw [c2]; decide) (by rw [c2]; decide) (off := 54) (by rw [c2]; rfl) (by decide) ?_
    refine lv_aload_n hx hb dX1_count_55 rfl (lv_at hl 0 rfl) ?_
    refine g_getr (b := (o + 7)) hx hb hts hown hG hR gFx_X1_96_0 sh_o.1 x_o_now dX1_count_56 ?_
    refine g_getr (b := y) hx hb hts hown hG hR gFx_X1_241_2 sh_o7 x_o7_yard dX1_count_59 ?_
    refine n_geti (v := i_y_columns) hx hb hts hown hG hR gFi_X1_487_3 sh_y.1 e_i_y_columns dX1_count_62 ?_
    obtain rfl := some_i hf
    exact hend _ _ _ _ dX1_count_65 hR hS
  have hf := ite_f c2 hf
  by_cases c3 : p1 = 2
  · have hf := ite_t c3 hf
    refine lv_tableIn (tgt := 66) hx hb dX1_count_1 (by rw [c3]; decide) (by rw [c3]; decide) (off := 65) (by rw [c3]; rfl) (by decide) ?_
    refine lv_aload_n hx hb dX1_count_66 rfl (lv_at hl 0 rfl) ?_
    refine g_getr (b := (o + 7)) hx hb hts hown hG hR gFx_X1_96_0 sh_o.1 x_o_now dX1_count_67 ?_
    refine g_getr (b := y) hx hb hts hown hG hR gFx_X1_241_2 sh_o7 x_o7_yard dX1_count_70 ?_
    refine n_geti (v := i_y_rows) hx hb hts hown hG hR gFi_X1_467_3 sh_y.1 e_i_y_rows dX1_count_73 ?_
    obtain rfl := some_i hf
    exact hend _ _ _ _ dX1_count_76 hR hS
  have hf := ite_f c3 hf
  by_cases c4 : p1 = 3
  · have hf := ite_t c4 hf
    refine lv_tableIn (tgt := 77) hx hb dX1_count_1 (by rw [c4]; decide) (by rw [c4]; decide) (off := 76) (by rw [c4]; rfl) (by decide) ?_
    refine lv_aload_n hx hb dX1_count_77 rfl (lv_at hl 0 rfl) ?_
    refine g_getr (b := (o + 7)) hx hb hts hown hG hR gFx_X1_96_0 sh_o.1 x_o_now dX1_count_78 ?_
    refine g_getr (b := y) hx hb hts hown hG hR gFx_X1_241_2 sh_o7 x_o7_yard dX1_count_81 ?_
    refine n_geti (v := i_y_pails) hx hb hts hown hG hR gFi_X1_529_3 sh_y.1 e_i_y_pails dX1_count_84 ?_
    obtain rfl := some_i hf
    exact hend _ _ _ _ dX1_count_87 hR hS
  have hf := ite_f c4 hf
  by_cases c5 : p1 = 4
  · have hf := ite_t c5 hf
    refine lv_tableIn (tgt := 88) hx hb dX1_count_1 (by rw [c5]; decide) (by rw [c5]; decide) (off := 87) (by rw [c5]; rfl) (by decide) ?_
    refine lv_aload_n hx hb dX1_count_88 rfl (lv_at hl 0 rfl) ?_
    refine g_getr (b := (o + 7)) hx hb hts hown hG hR gFx_X1_96_0 sh_o.1 x_o_now dX1_count_89 ?_
    refine g_getr (b := pl) hx hb hts hown hG hR gFx_X1_248_2 sh_o7 x_o7_plan dX1_count_92 ?_
    refine n_geti (v := i_pl_many) hx hb hts hown hG hR gFi_X1_265_4 sh_pl e_i_pl_many dX1_count_95 ?_
    obtain rfl := some_i hf
    exact hend _ _ _ _ dX1_count_98 hR hS
  have hf := ite_f c5 hf
  by_cases c6 : p1 = 5
  · have hf := ite_t c6 hf
    refine lv_tableIn (tgt := 99) hx hb dX1_count_1 (by rw [c6]; decide) (by rw [c6]; decide) (off := 98) (by rw [c6]; rfl) (by decide) ?_
    refine lv_aload_n hx hb dX1_count_99 rfl (lv_at hl 0 rfl) ?_
    refine n_geti (v := i_length) hx hb hts hown hG hR gFi_X1_214_0 sh_o.1 e_i_length dX1_count_100 ?_
    obtain rfl := some_i hf
    exact hend _ _ _ _ dX1_count_103 hR hS
  have hf := ite_f c6 hf
  by_cases c7 : p1 = 6
  · have hf := ite_t c7 hf
    refine lv_tableIn (tgt := 104) hx hb dX1_count_1 (by rw [c7]; decide) (by rw [c7]; decide) (off := 103) (by rw [c7]; rfl) (by decide) ?_
    refine lv_aload_n hx hb dX1_count_104 rfl (lv_at hl 0 rfl) ?_
    refine g_getr (b := (o + 7)) hx hb hts hown hG hR gFx_X1_96_0 sh_o.1 x_o_now dX1_count_105 ?_
    refine g_getr (b := y) hx hb hts hown hG hR gFx_X1_241_2 sh_o7 x_o7_yard dX1_count_108 ?_
    refine n_geti (v := i_y_way) hx hb hts hown hG hR gFi_X1_531_3 sh_y.1 e_i_y_way dX1_count_111 ?_
    obtain rfl := some_i hf
    exact hend _ _ _ _ dX1_count_114 hR hS
  have hf := ite_f c7 hf
  have hto := tb_out_0_6 p1 c1 c2 c3 c4 c5 c6 c7
  refine lv_tableOut (tgt := 115) hx hb dX1_count_1 hto (by decide) ?_
  refine lv_iconst (v := -1) hx hb dX1_count_115 li_m1 ?_
  obtain rfl := some_i hf
  exact hend _ _ _ _ dX1_count_116 hR hS
noncomputable def f1_lostBy_e2_0 (j31_s0 : Int32) (x2_0 : Int32 × (Nat → Int32) × (Nat → Int32) × (Nat → Int32) × (Nat → Int32)) : Option (Int32 × Int32 × (Nat → Int32) × (Nat → Int32) × (Nat → Int32) × (Nat → Int32)) :=
  lt (j31_s0 + x2_0.1) fun v3 =>
  some (v3, x2_0.1, x2_0.2.1, x2_0.2.2.1, x2_0.2.2.2.1, x2_0.2.2.2.2)

noncomputable def f1_lostBy_s2 (p2 : Int32) (i_y_columns : Int32) (i_y_rows : Int32) (i_y_wind : Int32) (w2_4 : Int32) (w2_i_o85_lost : Int32) (w2_a_o85_fuel : Nat → Int32) (w2_a_o85_wet : Nat → Int32) (w2_a_o85_heat : Nat → Int32) (w2_a_o85_burns : Nat → Int32) : Option ((Int32 × Int32 × (Nat → Int32) × (Nat → Int32) × (Nat → Int32) × (Nat → Int32)) ⊕ (Int32 × (Nat → Int32) × (Nat → Int32) × (Nat → Int32) × (Nat → Int32))) :=
  if (30 : Int32) ≤ w2_4 then
    some (.inr (w2_i_o85_lost, w2_a_o85_fuel, w2_a_o85_wet, w2_a_o85_heat, w2_a_o85_burns))
  else
    (f12_aimed (1 : Int32) i_y_columns i_y_rows i_y_wind w2_a_o85_fuel w2_a_o85_heat w2_a_o85_burns).bind fun rr5 =>
    (f12_minute rr5.1 p2 i_y_columns i_y_rows i_y_wind w2_i_o85_lost w2_a_o85_fuel w2_a_o85_wet rr5.2 w2_a_o85_burns).bind fun rr6 =>
    lt (w2_4 + (1 : Int32)) fun v7 =>
    some (.inl (v7, rr6.1, rr6.2.1, rr6.2.2.1, rr6.2.2.2.1, rr6.2.2.2.2))

noncomputable def f1_lostBy_j31 (p2 : Int32) (i_y_columns : Int32) (i_y_rows : Int32) (i_y_wind : Int32) (a_o85_heat : Nat → Int32) (rr1 : Int32 × (Nat → Int32) × (Nat → Int32) × (Nat → Int32)) (j31_s0 : Int32) (j31_a_o85_fuel : Nat → Int32) (j31_a_o85_burns : Nat → Int32) : Option (Int32 × Int32 × (Nat → Int32) × (Nat → Int32) × (Nat → Int32) × (Nat → Int32)) :=
  (whl (fun (s2 : Int32 × Int32 × (Nat → Int32) × (Nat → Int32) × (Nat → Int32) × (Nat → Int32)) => f1_lostBy_s2 p2 i_y_columns i_y_rows i_y_wind s2.1 s2.2.1 s2.2.2.1 s2.2.2.2.1 s2.2.2.2.2.1 s2.2.2.2.2.2) FU ((0 : Int32), rr1.1, j31_a_o85_fuel, rr1.2.2.1, a_o85_heat, j31_a_o85_burns)).bind fun rl2 =>
  f1_lostBy_e2_0 j31_s0 rl2

noncomputable def f1_lostBy (p1 : Int32) (p2 : Int32) (i_y_columns : Int32) (i_y_rows : Int32) (i_y_wind : Int32) (i_o85_lost : Int32) (a_o85_fuel : Nat → Int32) (a_o85_wet : Nat → Int32) (a_o85_heat : Nat → Int32) (a_o85_burns : Nat → Int32) (a_y_fuel : Nat → Int32) (a_y_burns : Nat → Int32) : Option (Int32 × Int32 × (Nat → Int32) × (Nat → Int32) × (Nat → Int32) × (Nat → Int32)) :=
  (f12_begin i_o85_lost a_o85_fuel a_o85_wet a_o85_burns a_y_fuel a_y_burns).bind fun rr1 =>
  if p1 = (-1 : Int32) then
    f1_lostBy_j31 p2 i_y_columns i_y_rows i_y_wind a_o85_heat rr1 (0 : Int32) rr1.2.1 rr1.2.2.2
  else
    (f12_give p1 i_y_rows rr1.2.1 rr1.2.2.2).bind fun rr9 =>
    f1_lostBy_j31 p2 i_y_columns i_y_rows i_y_wind a_o85_heat rr1 rr9.1 rr9.2.1 rr9.2.2
set_option maxHeartbeats 4000000 in
theorem m1_lostBy (l : Launch) (G : gG) (K : gK) (I : gI) (J : gJ) (X : gX) (A : gI) (B : gJ) (Q : gX) (o : Nat) (y : Nat) (sh_o : Sh K X o 0 rows0) (sh_y : Sh K X y 3 rows3) (sh_o85 : Sh K X (o + 85) 9 rows9) (sh_o7 : K (o + 7) = some (.inl 2)) (x_o7_yard : X 200 (o + 7) = some y) (x_o_tried : X 36 o = some (o + 85)) (x_o_now : X 9 o = some (o + 7)) (hN_A : nda [(o + 86), (o + 87), (o + 88), (o + 89), (y + 2), (y + 3)]) (p1 : Int32) (p2 : Int32) (i_y_columns : Int32) (i_y_rows : Int32) (i_y_wind : Int32) (i_o85_lost : Int32) (x0_o85_yard : Option Nat) (a_o85_fuel : Nat → Int32) (a_o85_wet : Nat → Int32) (a_o85_heat : Nat → Int32) (a_o85_burns : Nat → Int32) (a_y_fuel : Nat → Int32) (a_y_burns : Nat → Int32) (e_i_y_columns : I 304 y = i_y_columns) (e_i_y_rows : I 305 y = i_y_rows) (e_i_y_wind : I 314 y = i_y_wind) (e_i_o85_lost : I 905 (o + 85) = i_o85_lost) (e_x0_o85_yard : X 904 (o + 85) = x0_o85_yard) (e_a_o85_fuel : A (o + 86) = a_o85_fuel) (e_a_o85_wet : A (o + 87) = a_o85_wet) (e_a_o85_heat : A (o + 88) = a_o85_heat) (e_a_o85_burns : A (o + 89) = a_o85_burns) (e_a_y_fuel : A (y + 2) = a_y_fuel) (e_a_y_burns : A (y + 3) = a_y_burns) (out : Int32 × Int32 × (Nat → Int32) × (Nat → Int32) × (Nat → Int32) × (Nat → Int32)) (hf : f1_lostBy p1 p2 i_y_columns i_y_rows i_y_wind i_o85_lost a_o85_fuel a_o85_wet a_o85_heat a_o85_burns a_y_fuel a_y_burns = some out) : GMet l yX1_lostBy cX1_lostBy 5 (some .int) (6) (138) G [.ref o, .int p1, .int p2] K I J X A B Q (some (.int out.1)) K (ov I [(905, (o + 85), out.2.1)]) J (ov X [(904, (o + 85), (some y))]) (ova A [((o + 86), out.2.2.1), ((o + 87), out.2.2.2.1), ((o + 88), out.2.2.2.2.1), ((o + 89), out.2.2.2.2.2), ((y + 2), a_y_fuel), ((y + 3), a_y_burns)]) B Q 0 0 := by
  refine GMet.of (y := yX1_lostBy) rfl (Nat.le_of_ble_eq_true rfl) rfl ?_
  intro p e s m below meth c ls hx hb hr hml hlocks hts hown hname hG hR hl
  have hown : s.vm.findClass RX1 = some m.cls := hown
  have k_a_o85_fuel : K (o + 86) = some (.inr (0, 64)) := (sh_o85.2 0 _ rfl).1
  have k_a_o85_wet : K (o + 87) = some (.inr (0, 64)) := (sh_o85.2 1 _ rfl).1
  have k_a_o85_heat : K (o + 88) = some (.inr (0, 64)) := (sh_o85.2 2 _ rfl).1
  have k_a_o85_burns : K (o + 89) = some (.inr (1, 64)) := (sh_o85.2 3 _ rfl).1
  have k_a_y_fuel : K (y + 2) = some (.inr (0, 64)) := (sh_y.2 1 _ rfl).1
  have k_a_y_burns : K (y + 3) = some (.inr (1, 64)) := (sh_y.2 2 _ rfl).1
  have hR : RS G K (ov I [(905, (o + 85), i_o85_lost)]) J (ov X [(904, (o + 85), x0_o85_yard)]) (ova A [((o + 86), a_o85_fuel), ((o + 87), a_o85_wet), ((o + 88), a_o85_heat), ((o + 89), a_o85_burns), ((y + 2), a_y_fuel), ((y + 3), a_y_burns)]) B Q s.heap := hR.to (Eq.symm (ov_sc e_i_o85_lost rfl)) rfl (Eq.symm (ov_sc e_x0_o85_yard rfl)) (Eq.symm (ova_sc e_a_o85_fuel (ova_sc e_a_o85_wet (ova_sc e_a_o85_heat (ova_sc e_a_o85_burns (ova_sc e_a_y_fuel (ova_sc e_a_y_burns rfl))))))) rfl rfl
  have hS : va_S (gA G) s.heap s.heap [] := va_S.rf
  have hend : ∀ (pc : Nat) (H : Heap) (locs : List Loc) (ls : Array Slot), decode cX1_lostBy pc = .ok (.ireturn, 1) → RS G K (ov I [(905, (o + 85), out.2.1)]) J (ov X [(904, (o + 85), (some y))]) (ova A [((o + 86), out.2.2.1), ((o + 87), out.2.2.2.1), ((o + 88), out.2.2.2.2.1), ((o + 89), out.2.2.2.2.2), ((y + 2), a_y_fuel), ((y + 3), a_y_burns)]) B Q H → va_S (gA G) s.heap H locs → W p l e ({ frames := 6, cells := 0, slots := 0, locals := 138 } : Room) s m ([.ref o, .int p1, .int p2] : List Value).toArray below meth c H locs 0 0 (MQ below (gQ G (some (.int out.1)) K (ov I [(905, (o + 85), out.2.1)]) J (ov X [(904, (o + 85), (some y))]) (ova A [((o + 86), out.2.2.1), ((o + 87), out.2.2.2.1), ((o + 88), out.2.2.2.2.1), ((o + 89), out.2.2.2.2.2), ((y + 2), a_y_fuel), ((y + 3), a_y_burns)]) B Q) ([.ref o, .int p1, .int p2] : List Value).toArray s 0 0 (gA G)) (F0 m pc ls [.int out.1]) := fun pc H locs ls hd hR hS => g_iret hx hb hr hlocks hG hR hS rfl hd
  generalize MQ below (gQ G (some (.int out.1)) K (ov I [(905, (o + 85), out.2.1)]) J (ov X [(904, (o + 85), (some y))]) (ova A [((o + 86), out.2.2.1), ((o + 87), out.2.2.2.1), ((o + 88), out.2.2.2.2.1), ((o + 89), out.2.2.2.2.2), ((y + 2), a_y_fuel), ((y + 3), a_y_burns)]) B Q) ([.ref o, .int p1, .int p2] : List Value).toArray s 0 0 (gA G) = Z at hend ⊢
  generalize ([.ref o, .int p1, .int p2] : List Value).toArray = args at hts hend ⊢
  unfold f1_lostBy at hf
  refine lv_aload_n hx hb dX1_lostBy_0 rfl (lv_at hl 0 rfl) ?_
  refine g_getr (b := (o + 85)) hx hb hts hown hG hR gFx_X1_173_0 sh_o.1 ((congrFun (ov_no rfl) _).trans x_o_tried) dX1_lostBy_1 ?_
  refine lv_aload_n hx hb dX1_lostBy_4 rfl (lv_at hl 0 rfl) ?_
  refine g_getr (b := (o + 7)) hx hb hts hown hG hR gFx_X1_96_0 sh_o.1 ((congrFun (ov_no rfl) _).trans x_o_now) dX1_lostBy_5 ?_
  refine g_getr (b := y) hx hb hts hown hG hR gFx_X1_241_2 sh_o7 ((congrFun (ov_no rfl) _).trans x_o7_yard) dX1_lostBy_8 ?_
  obtain ⟨rr1, hrr1, hf⟩ := bind_s hf
  refine g0_cVv (rm := (0, 0)) (As := [.ref y]) (rest := []) ⟨hx, hb, hml, hown, hts⟩ hG hR hS (m12_begin l G K (ov I [(905, (o + 85), i_o85_lost)]) J (ov X [(904, (o + 85), x0_o85_yard)]) (ova A [((o + 86), a_o85_fuel), ((o + 87), a_o85_wet), ((o + 88), a_o85_heat), ((o + 89), a_o85_burns), ((y + 2), a_y_fuel), ((y + 3), a_y_burns)]) B Q (o + 85) y (Sh.ov rfl sh_o85) (Sh.ov rfl sh_y) (nd_sub hN_A [0, 1, 3, 4, 5] (by decide) rfl) i_o85_lost x0_o85_yard a_o85_fuel a_o85_wet a_o85_burns a_y_fuel a_y_burns (ov_get 0 rfl rfl) (ov_get 0 rfl rfl) (ova_get 0 hN_A rfl) (ova_get 1 hN_A rfl) (ova_get 3 hN_A rfl) (ova_get 4 hN_A rfl) (ova_get 5 hN_A rfl) rr1 hrr1) (cwV 1 hts gi_X1_439 rfl rfl rfl hd_X12_begin ⟨Nat.le_of_ble_eq_true rfl, Nat.le_of_ble_eq_true rfl⟩) sh_o85.1 rfl rfl hl.1 (Nat.le_of_ble_eq_true rfl) dX1_lostBy_11 ⟨Nat.le_refl _, Nat.le_refl _⟩ rfl (fun H locs hR hS => ?_)
  have hR : RS G K (ov I [(905, (o + 85), rr1.1)]) J (ov X [(904, (o + 85), (some y))]) (ova A [((o + 86), rr1.2.1), ((o + 87), rr1.2.2.1), ((o + 88), a_o85_heat), ((o + 89), rr1.2.2.2), ((y + 2), a_y_fuel), ((y + 3), a_y_burns)]) B Q H := hR.to (ov_merge (l := [(905, (o + 85), i_o85_lost)]) rfl [0] [(905, (o + 85), rr1.1)] rfl rfl) rfl (ov_merge (l := [(904, (o + 85), x0_o85_yard)]) rfl [0] [(904, (o + 85), (some y))] rfl rfl) (ova_merge (l := [((o + 86), a_o85_fuel), ((o + 87), a_o85_wet), ((o + 88), a_o85_heat), ((o + 89), a_o85_burns), ((y + 2), a_y_fuel), ((y + 3), a_y_burns)]) hN_A [0, 1, 3, 4, 5] [((o + 86), rr1.2.1), ((o + 87), rr1.2.2.1), ((o + 89), rr1.2.2.2), ((y + 2), a_y_fuel), ((y + 3), a_y_burns)] rfl rfl) rfl rfl
  refine lv_iload_n hx hb dX1_lostBy_14 rfl (lv_at hl 1 rfl) ?_
  refine lv_iconst (v := -1) hx hb dX1_lostBy_15 li_m1 ?_
  have hj31 : ∀ (j31_s0 : Int32) (j31_a_o85_fuel : Nat → Int32) (j31_a_o85_burns : Nat → Int32), f1_lostBy_j31 p2 i_y_columns i_y_rows i_y_wind a_o85_heat rr1 j31_s0 j31_a_o85_fuel j31_a_o85_burns = some out → ∀ (H : Heap) (locs : List Loc) (ls : Array Slot), RS G K (ov I [(905, (o + 85), rr1.1)]) J (ov X [(904, (o + 85), (some y))]) (ova A [((o + 86), j31_a_o85_fuel), ((o + 87), rr1.2.2.1), ((o + 88), a_o85_heat), ((o + 89), j31_a_o85_burns), ((y + 2), a_y_fuel), ((y + 3), a_y_burns)]) B Q H → va_S (gA G) s.heap H locs → lv_has ls 5 [(0, .ref o), (2, .int p2)] → W p l e ({ frames := 6, cells := 0, slots := 0, locals := 138 } : Room) s m args below meth c H locs 0 0 Z (F0 m 31 ls [.int j31_s0]) := by
    intro j31_s0 j31_a_o85_fuel j31_a_o85_burns hf H locs ls hR hS hl
    unfold f1_lostBy_j31 at hf
    refine lv_istore_n (lv' := [(3, .int j31_s0), (0, .ref o), (2, .int p2)]) hx hb dX1_lostBy_31 rfl hl (by decide) rfl (fun ls hl => ?_)
    refine lv_iconst (v := 0) hx hb dX1_lostBy_32 li_0 ?_
    refine lv_istore (lv' := [(4, .int (0 : Int32)), (3, .int j31_s0), (0, .ref o), (2, .int p2)]) hx hb dX1_lostBy_33 hl (by decide) rfl (fun ls hl => ?_)
    obtain ⟨rl2, hw2, hfo2⟩ := bind_s hf
    have hx2_0 : ∀ (x2_0 : Int32 × (Nat → Int32) × (Nat → Int32) × (Nat → Int32) × (Nat → Int32)), f1_lostBy_e2_0 j31_s0 x2_0 = some out → ∀ (H : Heap) (locs : List Loc) (ls : Array Slot), RS G K (ov I [(905, (o + 85), x2_0.1)]) J (ov X [(904, (o + 85), (some y))]) (ova A [((o + 86), x2_0.2.1), ((o + 87), x2_0.2.2.1), ((o + 88), x2_0.2.2.2.1), ((o + 89), x2_0.2.2.2.2), ((y + 2), a_y_fuel), ((y + 3), a_y_burns)]) B Q H → va_S (gA G) s.heap H locs → lv_has ls 5 [(0, .ref o), (3, .int j31_s0)] → W p l e ({ frames := 6, cells := 0, slots := 0, locals := 138 } : Room) s m args below meth c H locs 0 0 Z (F0 m 64 ls []) := by
      intro x2_0 hf H locs ls hR hS hl
      unfold f1_lostBy_e2_0 at hf
      refine lv_iload_n hx hb dX1_lostBy_64 rfl (lv_at hl 1 rfl) ?_
      refine lv_aload_n hx hb dX1_lostBy_65 rfl (lv_at hl 0 rfl) ?_
      refine g_getr (b := (o + 85)) hx hb hts hown hG hR gFx_X1_173_0 sh_o.1 ((congrFun (ov_no rfl) _).trans x_o_tried) dX1_lostBy_66 ?_
      refine n_geti (v := x2_0.1) hx hb hts hown hG hR gFi_X1_459_9 sh_o85.1 (ov_get 0 rfl rfl) dX1_lostBy_69 ?_
      obtain ⟨v3, ev3, hf⟩ := lt_some hf
      refine n_iadd hx hb ev3 dX1_lostBy_72 ?_
      obtain rfl := some_i hf
      exact hend _ _ _ _ dX1_lostBy_73 hR hS
    refine whl_walk (P := fun (s2 : Int32 × Int32 × (Nat → Int32) × (Nat → Int32) × (Nat → Int32) × (Nat → Int32)) => ∀ (H : Heap) (locs : List Loc) (ls : Array Slot), RS G K (ov I [(905, (o + 85), s2.2.1)]) J (ov X [(904, (o + 85), (some y))]) (ova A [((o + 86), s2.2.2.1), ((o + 87), s2.2.2.2.1), ((o + 88), s2.2.2.2.2.1), ((o + 89), s2.2.2.2.2.2), ((y + 2), a_y_fuel), ((y + 3), a_y_burns)]) B Q H → va_S (gA G) s.heap H locs → lv_has ls 5 [(0, .ref o), (2, .int p2), (3, .int j31_s0), (4, .int s2.1)] → W p l e ({ frames := 6, cells := 0, slots := 0, locals := 138 } : Room) s m args below meth c H locs 0 0 Z (F0 m 35 ls [])) (r := rl2) ?_ FU _ hw2 _ _ _ hR hS (lv_sub hl [2, 3, 1, 0] rfl)
    clear hR hS hl hf
    intro s2 o2 hf hk2 H locs ls hR hS hl
    obtain ⟨w2_4, w2_i_o85_lost, w2_a_o85_fuel, w2_a_o85_wet, w2_a_o85_heat, w2_a_o85_burns⟩ := s2
    have hf : f1_lostBy_s2 p2 i_y_columns i_y_rows i_y_wind w2_4 w2_i_o85_lost w2_a_o85_fuel w2_a_o85_wet w2_a_o85_heat w2_a_o85_burns = some o2 := hf
    have hR : RS G K (ov I [(905, (o + 85), w2_i_o85_lost)]) J (ov X [(904, (o + 85), (some y))]) (ova A [((o + 86), w2_a_o85_fuel), ((o + 87), w2_a_o85_wet), ((o + 88), w2_a_o85_heat), ((o + 89), w2_a_o85_burns), ((y + 2), a_y_fuel), ((y + 3), a_y_burns)]) B Q H := hR
    have hl : lv_has ls 5 [(0, .ref o), (2, .int p2), (3, .int j31_s0), (4, .int w2_4)] := hl
    unfold f1_lostBy_s2 at hf
    refine lv_iload hx hb dX1_lostBy_35 (lv_at hl 3 rfl) ?_
    refine lv_bipush (v := 30) hx hb dX1_lostBy_37 lb_30 ?_
    refine lv_icmp_ge (tgt := 64) hx hb dX1_lostBy_39 (by decide) (fun c4 => ?_) (fun c4 => ?_)
    · have hf := ite_t c4 hf
      obtain rfl := some_i hf
      replace hk2 : _ = rl2 := hk2
      subst hk2
      exact hx2_0 (w2_i_o85_lost, w2_a_o85_fuel, w2_a_o85_wet, w2_a_o85_heat, w2_a_o85_burns) hfo2 _ _ _ hR hS (lv_sub hl [0, 2] rfl)
    · have hf := ite_f c4 hf
      refine lv_aload_n hx hb dX1_lostBy_42 rfl (lv_at hl 0 rfl) ?_
      refine g_getr (b := (o + 85)) hx hb hts hown hG hR gFx_X1_173_0 sh_o.1 ((congrFun (ov_no rfl) _).trans x_o_tried) dX1_lostBy_43 ?_
      refine lv_aload_n hx hb dX1_lostBy_46 rfl (lv_at hl 0 rfl) ?_
      refine g_getr (b := (o + 85)) hx hb hts hown hG hR gFx_X1_173_0 sh_o.1 ((congrFun (ov_no rfl) _).trans x_o_tried) dX1_lostBy_47 ?_
      refine lv_iconst (v := 1) hx hb dX1_lostBy_50 li_1 ?_
      obtain ⟨rr5, hrr5, hf⟩ := bind_s hf
      refine g0_cV (rm := (5, 114)) (As := [.int (1 : Int32)]) (rest := [.ref (o + 85)]) ⟨hx, hb, hml, hown, hts⟩ hG hR hS (m12_aimed l G K (ov I [(905, (o + 85), w2_i_o85_lost)]) J (ov X [(904, (o + 85), (some y))]) (ova A [((o + 86), w2_a_o85_fuel), ((o + 87), w2_a_o85_wet), ((o + 88), w2_a_o85_heat), ((o + 89), w2_a_o85_burns), ((y + 2), a_y_fuel), ((y + 3), a_y_burns)]) B Q (o + 85) y (Sh.ov rfl sh_o85) (Sh.ov rfl sh_y) (ov_get 0 rfl rfl) (1 : Int32) i_y_columns i_y_rows i_y_wind w2_a_o85_fuel w2_a_o85_heat w2_a_o85_burns ((congrFun (ov_no rfl) _).trans e_i_y_columns) ((congrFun (ov_no rfl) _).trans e_i_y_rows) ((congrFun (ov_no rfl) _).trans e_i_y_wind) (ova_get 0 hN_A rfl) (ova_get 2 hN_A rfl) (ova_get 3 hN_A rfl) rr5 hrr5) (cwV 1 hts gi_X1_454 rfl rfl rfl hd_X12_aimed ⟨Nat.le_of_ble_eq_true rfl, Nat.le_of_ble_eq_true rfl⟩) sh_o85.1 rfl rfl hl.1 (Nat.le_of_ble_eq_true rfl) dX1_lostBy_51 ⟨Nat.le_refl _, Nat.le_refl _⟩ rfl (fun H locs hR hS => ?_)
      have hR : RS G K (ov I [(905, (o + 85), w2_i_o85_lost)]) J (ov X [(904, (o + 85), (some y))]) (ova A [((o + 86), w2_a_o85_fuel), ((o + 87), w2_a_o85_wet), ((o + 88), rr5.2), ((o + 89), w2_a_o85_burns), ((y + 2), a_y_fuel), ((y + 3), a_y_burns)]) B Q H := hR.to rfl rfl rfl (ova_merge (l := [((o + 86), w2_a_o85_fuel), ((o + 87), w2_a_o85_wet), ((o + 88), w2_a_o85_heat), ((o + 89), w2_a_o85_burns), ((y + 2), a_y_fuel), ((y + 3), a_y_burns)]) hN_A [0, 2, 3] [((o + 86), w2_a_o85_fuel), ((o + 88), rr5.2), ((o + 89), w2_a_o85_burns)] rfl rfl) rfl rfl
      refine lv_iload_n hx hb dX1_lostBy_54 rfl (lv_at hl 1 rfl) ?_
      obtain ⟨rr6, hrr6, hf⟩ := bind_s hf
      refine g0_cVv (rm := (4, 91)) (As := [.int rr5.1, .int p2]) (rest := []) ⟨hx, hb, hml, hown, hts⟩ hG hR hS (m12_minute l G K (ov I [(905, (o + 85), w2_i_o85_lost)]) J (ov X [(904, (o + 85), (some y))]) (ova A [((o + 86), w2_a_o85_fuel), ((o + 87), w2_a_o85_wet), ((o + 88), rr5.2), ((o + 89), w2_a_o85_burns), ((y + 2), a_y_fuel), ((y + 3), a_y_burns)]) B Q (o + 85) y (Sh.ov rfl sh_o85) (Sh.ov rfl sh_y) (ov_get 0 rfl rfl) rr5.1 p2 i_y_columns i_y_rows i_y_wind w2_i_o85_lost w2_a_o85_fuel w2_a_o85_wet rr5.2 w2_a_o85_burns ((congrFun (ov_no rfl) _).trans e_i_y_columns) ((congrFun (ov_no rfl) _).trans e_i_y_rows) ((congrFun (ov_no rfl) _).trans e_i_y_wind) (ov_get 0 rfl rfl) (ova_get 0 hN_A rfl) (ova_get 1 hN_A rfl) (ova_get 2 hN_A rfl) (ova_get 3 hN_A rfl) rr6 hrr6) (cwV 2 hts gi_X1_457 rfl rfl rfl hd_X12_minute ⟨Nat.le_of_ble_eq_true rfl, Nat.le_of_ble_eq_true rfl⟩) sh_o85.1 rfl rfl hl.1 (Nat.le_of_ble_eq_true rfl) dX1_lostBy_55 ⟨Nat.le_refl _, Nat.le_refl _⟩ rfl (fun H locs hR hS => ?_)
      have hR : RS G K (ov I [(905, (o + 85), rr6.1)]) J (ov X [(904, (o + 85), (some y))]) (ova A [((o + 86), rr6.2.1), ((o + 87), rr6.2.2.1), ((o + 88), rr6.2.2.2.1), ((o + 89), rr6.2.2.2.2), ((y + 2), a_y_fuel), ((y + 3), a_y_burns)]) B Q H := hR.to (ov_merge (l := [(905, (o + 85), w2_i_o85_lost)]) rfl [0] [(905, (o + 85), rr6.1)] rfl rfl) rfl rfl (ova_merge (l := [((o + 86), w2_a_o85_fuel), ((o + 87), w2_a_o85_wet), ((o + 88), rr5.2), ((o + 89), w2_a_o85_burns), ((y + 2), a_y_fuel), ((y + 3), a_y_burns)]) hN_A [0, 1, 2, 3] [((o + 86), rr6.2.1), ((o + 87), rr6.2.2.1), ((o + 88), rr6.2.2.2.1), ((o + 89), rr6.2.2.2.2)] rfl rfl) rfl rfl
      obtain ⟨v7, ev7, hf⟩ := lt_some hf
      refine lv_iinc (k := 3) (v := v7) (lv' := [(4, .int v7), (0, .ref o), (2, .int p2), (3, .int j31_s0)]) hx hb dX1_lostBy_58 hl rfl (by rw [ev7]; rfl) (by decide) rfl (fun ls hl => ?_)
      refine lv_goto (tgt := 35) hx hb dX1_lostBy_61 (by decide) ?_
      obtain rfl := some_i hf
      exact hk2 _ _ _ hR hS (lv_sub hl [1, 2, 3, 0] rfl)
  refine lv_icmp_ne (tgt := 23) hx hb dX1_lostBy_16 (by decide) (fun c8 => ?_) (fun c8 => ?_)
  · have hf := ite_f c8 hf
    refine lv_aload_n hx hb dX1_lostBy_23 rfl (lv_at hl 0 rfl) ?_
    refine g_getr (b := (o + 85)) hx hb hts hown hG hR gFx_X1_173_0 sh_o.1 ((congrFun (ov_no rfl) _).trans x_o_tried) dX1_lostBy_24 ?_
    refine lv_iload_n hx hb dX1_lostBy_27 rfl (lv_at hl 1 rfl) ?_
    obtain ⟨rr9, hrr9, hf⟩ := bind_s hf
    refine g0_cV (rm := (0, 0)) (As := [.int p1]) (rest := []) ⟨hx, hb, hml, hown, hts⟩ hG hR hS (m12_give l G K (ov I [(905, (o + 85), rr1.1)]) J (ov X [(904, (o + 85), (some y))]) (ova A [((o + 86), rr1.2.1), ((o + 87), rr1.2.2.1), ((o + 88), a_o85_heat), ((o + 89), rr1.2.2.2), ((y + 2), a_y_fuel), ((y + 3), a_y_burns)]) B Q (o + 85) y (Sh.ov rfl sh_o85) (Sh.ov rfl sh_y) (ov_get 0 rfl rfl) p1 i_y_rows rr1.2.1 rr1.2.2.2 ((congrFun (ov_no rfl) _).trans e_i_y_rows) (ova_get 0 hN_A rfl) (ova_get 3 hN_A rfl) rr9 hrr9) (cwV 1 hts gi_X1_482 rfl rfl rfl hd_X12_give ⟨Nat.le_of_ble_eq_true rfl, Nat.le_of_ble_eq_true rfl⟩) sh_o85.1 rfl rfl hl.1 (Nat.le_of_ble_eq_true rfl) dX1_lostBy_28 ⟨Nat.le_refl _, Nat.le_refl _⟩ rfl (fun H locs hR hS => ?_)
    have hR : RS G K (ov I [(905, (o + 85), rr1.1)]) J (ov X [(904, (o + 85), (some y))]) (ova A [((o + 86), rr9.2.1), ((o + 87), rr1.2.2.1), ((o + 88), a_o85_heat), ((o + 89), rr9.2.2), ((y + 2), a_y_fuel), ((y + 3), a_y_burns)]) B Q H := hR.to rfl rfl rfl (ova_merge (l := [((o + 86), rr1.2.1), ((o + 87), rr1.2.2.1), ((o + 88), a_o85_heat), ((o + 89), rr1.2.2.2), ((y + 2), a_y_fuel), ((y + 3), a_y_burns)]) hN_A [0, 3] [((o + 86), rr9.2.1), ((o + 89), rr9.2.2)] rfl rfl) rfl rfl
    exact hj31 rr9.1 rr9.2.1 rr9.2.2 hf _ _ _ hR hS (lv_sub hl [0, 2] rfl)
  · have hf := ite_t c8 hf
    refine lv_iconst (v := 0) hx hb dX1_lostBy_19 li_0 ?_
    refine lv_goto (tgt := 31) hx hb dX1_lostBy_20 (by decide) ?_
    exact hj31 (0 : Int32) rr1.2.1 rr1.2.2.2 hf _ _ _ hR hS (lv_sub hl [0, 2] rfl)
noncomputable def f1_give_e4_0 (x4_0 : Int32 × Int32 × (Option Nat) × (Nat → Int32) × (Nat → Int32) × (Nat → Int32) × (Nat → Int32)) : Option (Int32 × Int32 × (Option Nat) × (Nat → Int32) × (Nat → Int32) × (Nat → Int32) × (Nat → Int32)) :=
  some (x4_0.1, x4_0.2.1, x4_0.2.2.1, x4_0.2.2.2.1, x4_0.2.2.2.2.1, x4_0.2.2.2.2.2.1, x4_0.2.2.2.2.2.2)

noncomputable def f1_give_j60 (y : Nat) (w4_4 : Int32) (rr6 : Int32 × Int32 × (Nat → Int32) × (Nat → Int32) × (Nat → Int32) × (Nat → Int32)) (j60_2 : Int32) (j60_3 : Int32) : Option ((Int32 × Int32 × Int32 × Int32 × (Option Nat) × (Nat → Int32) × (Nat → Int32) × (Nat → Int32) × (Nat → Int32)) ⊕ (Int32 × Int32 × (Option Nat) × (Nat → Int32) × (Nat → Int32) × (Nat → Int32) × (Nat → Int32))) :=
  lt (w4_4 + (1 : Int32)) fun v7 =>
  some (.inl (j60_2, j60_3, v7, rr6.2.1, (some y), rr6.2.2.1, rr6.2.2.2.1, rr6.2.2.2.2.1, rr6.2.2.2.2.2))

noncomputable def f1_give_s4 (p1 : Int32) (i_y_columns : Int32) (i_y_rows : Int32) (i_y_wind : Int32) (a_y_fuel : Nat → Int32) (a_y_burns : Nat → Int32) (y : Nat) (w4_2 : Int32) (w4_3 : Int32) (w4_4 : Int32) (w4_i_o85_lost : Int32) (w4_x0_o85_yard : Option Nat) (w4_a_o85_fuel : Nat → Int32) (w4_a_o85_wet : Nat → Int32) (w4_a_o85_heat : Nat → Int32) (w4_a_o85_burns : Nat → Int32) : Option ((Int32 × Int32 × Int32 × Int32 × (Option Nat) × (Nat → Int32) × (Nat → Int32) × (Nat → Int32) × (Nat → Int32)) ⊕ (Int32 × Int32 × (Option Nat) × (Nat → Int32) × (Nat → Int32) × (Nat → Int32) × (Nat → Int32))) :=
  if i_y_columns ≤ w4_4 then
    some (.inr (w4_2, w4_i_o85_lost, w4_x0_o85_yard, w4_a_o85_fuel, w4_a_o85_wet, w4_a_o85_heat, w4_a_o85_burns))
  else
    (f1_lostBy w4_4 p1 i_y_columns i_y_rows i_y_wind w4_i_o85_lost w4_a_o85_fuel w4_a_o85_wet w4_a_o85_heat w4_a_o85_burns a_y_fuel a_y_burns).bind fun rr6 =>
    if rr6.1 < w4_3 then
      f1_give_j60 y w4_4 rr6 w4_4 rr6.1
    else
      f1_give_j60 y w4_4 rr6 w4_2 w4_3

noncomputable def f1_give (p1 : Int32) (y : Nat) (i_y_columns : Int32) (i_y_rows : Int32) (i_y_wind : Int32) (i_o85_lost : Int32) (x0_o85_yard : Option Nat) (a_o85_fuel : Nat → Int32) (a_o85_wet : Nat → Int32) (a_o85_heat : Nat → Int32) (a_o85_burns : Nat → Int32) (a_y_fuel : Nat → Int32) (a_y_burns : Nat → Int32) : Option (Int32 × Int32 × (Option Nat) × (Nat → Int32) × (Nat → Int32) × (Nat → Int32) × (Nat → Int32)) :=
  (f1_areLitres p1).bind fun rr1 =>
  if rr1 = 0 then
    some ((-1 : Int32), i_o85_lost, x0_o85_yard, a_o85_fuel, a_o85_wet, a_o85_heat, a_o85_burns)
  else
    (f1_lostBy (-1 : Int32) p1 i_y_columns i_y_rows i_y_wind i_o85_lost a_o85_fuel a_o85_wet a_o85_heat a_o85_burns a_y_fuel a_y_burns).bind fun rr3 =>
    (whl (fun (s4 : Int32 × Int32 × Int32 × Int32 × (Option Nat) × (Nat → Int32) × (Nat → Int32) × (Nat → Int32) × (Nat → Int32)) => f1_give_s4 p1 i_y_columns i_y_rows i_y_wind a_y_fuel a_y_burns y s4.1 s4.2.1 s4.2.2.1 s4.2.2.2.1 s4.2.2.2.2.1 s4.2.2.2.2.2.1 s4.2.2.2.2.2.2.1 s4.2.2.2.2.2.2.2.1 s4.2.2.2.2.2.2.2.2) FU ((-1 : Int32), rr3.1, (0 : Int32), rr3.2.1, (some y), rr3.2.2.1, rr3.2.2.2.1, rr3.2.2.2.2.1, rr3.2.2.2.2.2)).bind fun rl4 =>
    f1_give_e4_0 rl4
set_option maxHeartbeats 4000000 in
theorem m1_give (l : Launch) (G : gG) (K : gK) (I : gI) (J : gJ) (X : gX) (A : gI) (B : gJ) (Q : gX) (o : Nat) (y : Nat) (sh_o : Sh K X o 0 rows0) (sh_y : Sh K X y 3 rows3) (sh_o85 : Sh K X (o + 85) 9 rows9) (sh_o7 : K (o + 7) = some (.inl 2)) (x_o7_yard : X 200 (o + 7) = some y) (x_o_tried : X 36 o = some (o + 85)) (x_o_now : X 9 o = some (o + 7)) (hN_A : nda [(o + 86), (o + 87), (o + 88), (o + 89), (y + 2), (y + 3)]) (p1 : Int32) (i_y_columns : Int32) (i_y_rows : Int32) (i_y_wind : Int32) (i_o85_lost : Int32) (x0_o85_yard : Option Nat) (a_o85_fuel : Nat → Int32) (a_o85_wet : Nat → Int32) (a_o85_heat : Nat → Int32) (a_o85_burns : Nat → Int32) (a_y_fuel : Nat → Int32) (a_y_burns : Nat → Int32) (e_i_y_columns : I 304 y = i_y_columns) (e_i_y_rows : I 305 y = i_y_rows) (e_i_y_wind : I 314 y = i_y_wind) (e_i_o85_lost : I 905 (o + 85) = i_o85_lost) (e_x0_o85_yard : X 904 (o + 85) = x0_o85_yard) (e_a_o85_fuel : A (o + 86) = a_o85_fuel) (e_a_o85_wet : A (o + 87) = a_o85_wet) (e_a_o85_heat : A (o + 88) = a_o85_heat) (e_a_o85_burns : A (o + 89) = a_o85_burns) (e_a_y_fuel : A (y + 2) = a_y_fuel) (e_a_y_burns : A (y + 3) = a_y_burns) (out : Int32 × Int32 × (Option Nat) × (Nat → Int32) × (Nat → Int32) × (Nat → Int32) × (Nat → Int32)) (hf : f1_give p1 y i_y_columns i_y_rows i_y_wind i_o85_lost x0_o85_yard a_o85_fuel a_o85_wet a_o85_heat a_o85_burns a_y_fuel a_y_burns = some out) : GMet l yX1_give cX1_give 6 (some .int) (7) (162) G [.ref o, .int p1] K I J X A B Q (some (.int out.1)) K (ov I [(905, (o + 85), out.2.1)]) J (ov X [(904, (o + 85), out.2.2.1)]) (ova A [((o + 86), out.2.2.2.1), ((o + 87), out.2.2.2.2.1), ((o + 88), out.2.2.2.2.2.1), ((o + 89), out.2.2.2.2.2.2), ((y + 2), a_y_fuel), ((y + 3), a_y_burns)]) B Q 0 0 := by
  refine GMet.of (y := yX1_give) rfl (Nat.le_of_ble_eq_true rfl) rfl ?_
  intro p e s m below meth c ls hx hb hr hml hlocks hts hown hname hG hR hl
  have hown : s.vm.findClass RX1 = some m.cls := hown
  have k_a_o85_fuel : K (o + 86) = some (.inr (0, 64)) := (sh_o85.2 0 _ rfl).1
  have k_a_o85_wet : K (o + 87) = some (.inr (0, 64)) := (sh_o85.2 1 _ rfl).1
  have k_a_o85_heat : K (o + 88) = some (.inr (0, 64)) := (sh_o85.2 2 _ rfl).1
  have k_a_o85_burns : K (o + 89) = some (.inr (1, 64)) := (sh_o85.2 3 _ rfl).1
  have k_a_y_fuel : K (y + 2) = some (.inr (0, 64)) := (sh_y.2 1 _ rfl).1
  have k_a_y_burns : K (y + 3) = some (.inr (1, 64)) := (sh_y.2 2 _ rfl).1
  have hR : RS G K (ov I [(905, (o + 85), i_o85_lost)]) J (ov X [(904, (o + 85), x0_o85_yard)]) (ova A [((o + 86), a_o85_fuel), ((o + 87), a_o85_wet), ((o + 88), a_o85_heat), ((o + 89), a_o85_burns), ((y + 2), a_y_fuel), ((y + 3), a_y_burns)]) B Q s.heap := hR.to (Eq.symm (ov_sc e_i_o85_lost rfl)) rfl (Eq.symm (ov_sc e_x0_o85_yard rfl)) (Eq.symm (ova_sc e_a_o85_fuel (ova_sc e_a_o85_wet (ova_sc e_a_o85_heat (ova_sc e_a_o85_burns (ova_sc e_a_y_fuel (ova_sc e_a_y_burns rfl))))))) rfl rfl
  have hS : va_S (gA G) s.heap s.heap [] := va_S.rf
  have hend : ∀ (pc : Nat) (H : Heap) (locs : List Loc) (ls : Array Slot), decode cX1_give pc = .ok (.ireturn, 1) → RS G K (ov I [(905, (o + 85), out.2.1)]) J (ov X [(904, (o + 85), out.2.2.1)]) (ova A [((o + 86), out.2.2.2.1), ((o + 87), out.2.2.2.2.1), ((o + 88), out.2.2.2.2.2.1), ((o + 89), out.2.2.2.2.2.2), ((y + 2), a_y_fuel), ((y + 3), a_y_burns)]) B Q H → va_S (gA G) s.heap H locs → W p l e ({ frames := 7, cells := 0, slots := 0, locals := 162 } : Room) s m ([.ref o, .int p1] : List Value).toArray below meth c H locs 0 0 (MQ below (gQ G (some (.int out.1)) K (ov I [(905, (o + 85), out.2.1)]) J (ov X [(904, (o + 85), out.2.2.1)]) (ova A [((o + 86), out.2.2.2.1), ((o + 87), out.2.2.2.2.1), ((o + 88), out.2.2.2.2.2.1), ((o + 89), out.2.2.2.2.2.2), ((y + 2), a_y_fuel), ((y + 3), a_y_burns)]) B Q) ([.ref o, .int p1] : List Value).toArray s 0 0 (gA G)) (F0 m pc ls [.int out.1]) := fun pc H locs ls hd hR hS => g_iret hx hb hr hlocks hG hR hS rfl hd
  generalize MQ below (gQ G (some (.int out.1)) K (ov I [(905, (o + 85), out.2.1)]) J (ov X [(904, (o + 85), out.2.2.1)]) (ova A [((o + 86), out.2.2.2.1), ((o + 87), out.2.2.2.2.1), ((o + 88), out.2.2.2.2.2.1), ((o + 89), out.2.2.2.2.2.2), ((y + 2), a_y_fuel), ((y + 3), a_y_burns)]) B Q) ([.ref o, .int p1] : List Value).toArray s 0 0 (gA G) = Z at hend ⊢
  generalize ([.ref o, .int p1] : List Value).toArray = args at hts hend ⊢
  unfold f1_give at hf
  refine lv_iload_n hx hb dX1_give_0 rfl (lv_at hl 1 rfl) ?_
  obtain ⟨rr1, hrr1, hf⟩ := bind_s hf
  refine g0_cS (rm := (1, 22)) (As := [.int p1]) (rest := []) ⟨hx, hb, hml, hown, hts⟩ hG hR hS (m1_areLitres l G K (ov I [(905, (o + 85), i_o85_lost)]) J (ov X [(904, (o + 85), x0_o85_yard)]) (ova A [((o + 86), a_o85_fuel), ((o + 87), a_o85_wet), ((o + 88), a_o85_heat), ((o + 89), a_o85_burns), ((y + 2), a_y_fuel), ((y + 3), a_y_burns)]) B Q p1 rr1 hrr1) (cwS 1 hts gi_X1_433 rfl rfl rfl hd_X1_areLitres ⟨Nat.le_of_ble_eq_true rfl, Nat.le_of_ble_eq_true rfl⟩) rfl hl.1 (Nat.le_of_ble_eq_true rfl) dX1_give_1 ⟨Nat.le_refl _, Nat.le_refl _⟩ rfl (fun H locs hR hS => ?_)
  refine lv_if_ne (tgt := 9) hx hb dX1_give_4 (by decide) (fun c2 => ?_) (fun c2 => ?_)
  · have hf := ite_f c2 hf
    refine lv_iconst (v := -1) hx hb dX1_give_9 li_m1 ?_
    refine lv_istore_n (lv' := [(2, .int (-1 : Int32)), (0, .ref o), (1, .int p1)]) hx hb dX1_give_10 rfl hl (by decide) rfl (fun ls hl => ?_)
    refine lv_aload_n hx hb dX1_give_11 rfl (lv_at hl 1 rfl) ?_
    refine lv_iconst (v := -1) hx hb dX1_give_12 li_m1 ?_
    refine lv_iload_n hx hb dX1_give_13 rfl (lv_at hl 2 rfl) ?_
    obtain ⟨rr3, hrr3, hf⟩ := bind_s hf
    refine g0_cV (rm := (6, 138)) (As := [.int (-1 : Int32), .int p1]) (rest := []) ⟨hx, hb, hml, hown, hts⟩ hG hR hS (m1_lostBy l G K (ov I [(905, (o + 85), i_o85_lost)]) J (ov X [(904, (o + 85), x0_o85_yard)]) (ova A [((o + 86), a_o85_fuel), ((o + 87), a_o85_wet), ((o + 88), a_o85_heat), ((o + 89), a_o85_burns), ((y + 2), a_y_fuel), ((y + 3), a_y_burns)]) B Q o y (Sh.ov rfl sh_o) (Sh.ov rfl sh_y) (Sh.ov rfl sh_o85) sh_o7 ((congrFun (ov_no rfl) _).trans x_o7_yard) ((congrFun (ov_no rfl) _).trans x_o_tried) ((congrFun (ov_no rfl) _).trans x_o_now) (nd_sub hN_A [0, 1, 2, 3, 4, 5] (by decide) rfl) (-1 : Int32) p1 i_y_columns i_y_rows i_y_wind i_o85_lost x0_o85_yard a_o85_fuel a_o85_wet a_o85_heat a_o85_burns a_y_fuel a_y_burns ((congrFun (ov_no rfl) _).trans e_i_y_columns) ((congrFun (ov_no rfl) _).trans e_i_y_rows) ((congrFun (ov_no rfl) _).trans e_i_y_wind) (ov_get 0 rfl rfl) (ov_get 0 rfl rfl) (ova_get 0 hN_A rfl) (ova_get 1 hN_A rfl) (ova_get 2 hN_A rfl) (ova_get 3 hN_A rfl) (ova_get 4 hN_A rfl) (ova_get 5 hN_A rfl) rr3 hrr3) (cwV 2 hts gi_X1_484 rfl rfl rfl hd_X1_lostBy ⟨Nat.le_of_ble_eq_true rfl, Nat.le_of_ble_eq_true rfl⟩) sh_o.1 rfl rfl hl.1 (Nat.le_of_ble_eq_true rfl) dX1_give_14 ⟨Nat.le_refl _, Nat.le_refl _⟩ rfl (fun H locs hR hS => ?_)
    have hR : RS G K (ov I [(905, (o + 85), rr3.2.1)]) J (ov X [(904, (o + 85), (some y))]) (ova A [((o + 86), rr3.2.2.1), ((o + 87), rr3.2.2.2.1), ((o + 88), rr3.2.2.2.2.1), ((o + 89), rr3.2.2.2.2.2), ((y + 2), a_y_fuel), ((y + 3), a_y_burns)]) B Q H := hR.to (ov_merge (l := [(905, (o + 85), i_o85_lost)]) rfl [0] [(905, (o + 85), rr3.2.1)] rfl rfl) rfl (ov_merge (l := [(904, (o + 85), x0_o85_yard)]) rfl [0] [(904, (o + 85), (some y))] rfl rfl) (ova_merge (l := [((o + 86), a_o85_fuel), ((o + 87), a_o85_wet), ((o + 88), a_o85_heat), ((o + 89), a_o85_burns), ((y + 2), a_y_fuel), ((y + 3), a_y_burns)]) hN_A [0, 1, 2, 3, 4, 5] [((o + 86), rr3.2.2.1), ((o + 87), rr3.2.2.2.1), ((o + 88), rr3.2.2.2.2.1), ((o + 89), rr3.2.2.2.2.2), ((y + 2), a_y_fuel), ((y + 3), a_y_burns)] rfl rfl) rfl rfl
    refine lv_istore_n (lv' := [(3, .int rr3.1), (2, .int (-1 : Int32)), (0, .ref o), (1, .int p1)]) hx hb dX1_give_17 rfl hl (by decide) rfl (fun ls hl => ?_)
    refine lv_iconst (v := 0) hx hb dX1_give_18 li_0 ?_
    refine lv_istore (lv' := [(4, .int (0 : Int32)), (3, .int rr3.1), (2, .int (-1 : Int32)), (0, .ref o), (1, .int p1)]) hx hb dX1_give_19 hl (by decide) rfl (fun ls hl => ?_)
    obtain ⟨rl4, hw4, hfo4⟩ := bind_s hf
    have hx4_0 : ∀ (x4_0 : Int32 × Int32 × (Option Nat) × (Nat → Int32) × (Nat → Int32) × (Nat → Int32) × (Nat → Int32)), f1_give_e4_0 x4_0 = some out → ∀ (H : Heap) (locs : List Loc) (ls : Array Slot), RS G K (ov I [(905, (o + 85), x4_0.2.1)]) J (ov X [(904, (o + 85), x4_0.2.2.1)]) (ova A [((o + 86), x4_0.2.2.2.1), ((o + 87), x4_0.2.2.2.2.1), ((o + 88), x4_0.2.2.2.2.2.1), ((o + 89), x4_0.2.2.2.2.2.2), ((y + 2), a_y_fuel), ((y + 3), a_y_burns)]) B Q H → va_S (gA G) s.heap H locs → lv_has ls 6 [(0, .ref o), (2, .int x4_0.1)] → W p l e ({ frames := 7, cells := 0, slots := 0, locals := 162 } : Room) s m args below meth c H locs 0 0 Z (F0 m 66 ls []) := by
      intro x4_0 hf H locs ls hR hS hl
      unfold f1_give_e4_0 at hf
      refine lv_iload_n hx hb dX1_give_66 rfl (lv_at hl 1 rfl) ?_
      obtain rfl := some_i hf
      exact hend _ _ _ _ dX1_give_67 hR hS
    refine whl_walk (P := fun (s4 : Int32 × Int32 × Int32 × Int32 × (Option Nat) × (Nat → Int32) × (Nat → Int32) × (Nat → Int32) × (Nat → Int32)) => ∀ (H : Heap) (locs : List Loc) (ls : Array Slot), RS G K (ov I [(905, (o + 85), s4.2.2.2.1)]) J (ov X [(904, (o + 85), s4.2.2.2.2.1)]) (ova A [((o + 86), s4.2.2.2.2.2.1), ((o + 87), s4.2.2.2.2.2.2.1), ((o + 88), s4.2.2.2.2.2.2.2.1), ((o + 89), s4.2.2.2.2.2.2.2.2), ((y + 2), a_y_fuel), ((y + 3), a_y_burns)]) B Q H → va_S (gA G) s.heap H locs → lv_has ls 6 [(0, .ref o), (1, .int p1), (2, .int s4.1), (3, .int s4.2.1), (4, .int s4.2.2.1)] → W p l e ({ frames := 7, cells := 0, slots := 0, locals := 162 } : Room) s m args below meth c H locs 0 0 Z (F0 m 21 ls [])) (r := rl4) ?_ FU _ hw4 _ _ _ hR hS (lv_sub hl [3, 4, 2, 1, 0] rfl)
    clear hR hS hl hf
    intro s4 o4 hf hk4 H locs ls hR hS hl
    obtain ⟨w4_2, w4_3, w4_4, w4_i_o85_lost, w4_x0_o85_yard, w4_a_o85_fuel, w4_a_o85_wet, w4_a_o85_heat, w4_a_o85_burns⟩ := s4
    have hf : f1_give_s4 p1 i_y_columns i_y_rows i_y_wind a_y_fuel a_y_burns y w4_2 w4_3 w4_4 w4_i_o85_lost w4_x0_o85_yard w4_a_o85_fuel w4_a_o85_wet w4_a_o85_heat w4_a_o85_burns = some o4 := hf
    have hR : RS G K (ov I [(905, (o + 85), w4_i_o85_lost)]) J (ov X [(904, (o + 85), w4_x0_o85_yard)]) (ova A [((o + 86), w4_a_o85_fuel), ((o + 87), w4_a_o85_wet), ((o + 88), w4_a_o85_heat), ((o + 89), w4_a_o85_burns), ((y + 2), a_y_fuel), ((y + 3), a_y_burns)]) B Q H := hR
    have hl : lv_has ls 6 [(0, .ref o), (1, .int p1), (2, .int w4_2), (3, .int w4_3), (4, .int w4_4)] := hl
    unfold f1_give_s4 at hf
    refine lv_iload hx hb dX1_give_21 (lv_at hl 4 rfl) ?_
    refine lv_aload_n hx hb dX1_give_23 rfl (lv_at hl 0 rfl) ?_
    refine g_getr (b := (o + 7)) hx hb hts hown hG hR gFx_X1_96_0 sh_o.1 ((congrFun (ov_no rfl) _).trans x_o_now) dX1_give_24 ?_
    refine g_getr (b := y) hx hb hts hown hG hR gFx_X1_241_2 sh_o7 ((congrFun (ov_no rfl) _).trans x_o7_yard) dX1_give_27 ?_
    refine n_geti (v := i_y_columns) hx hb hts hown hG hR gFi_X1_487_3 sh_y.1 ((congrFun (ov_no rfl) _).trans e_i_y_columns) dX1_give_30 ?_
    refine lv_icmp_ge (tgt := 66) hx hb dX1_give_33 (by decide) (fun c5 => ?_) (fun c5 => ?_)
    · have hf := ite_t c5 hf
      obtain rfl := some_i hf
      replace hk4 : _ = rl4 := hk4
      subst hk4
      exact hx4_0 (w4_2, w4_i_o85_lost, w4_x0_o85_yard, w4_a_o85_fuel, w4_a_o85_wet, w4_a_o85_heat, w4_a_o85_burns) hfo4 _ _ _ hR hS (lv_sub hl [0, 2] rfl)
    · have hf := ite_f c5 hf
      refine lv_aload_n hx hb dX1_give_36 rfl (lv_at hl 0 rfl) ?_
      refine lv_iload hx hb dX1_give_37 (lv_at hl 4 rfl) ?_
      refine lv_iload_n hx hb dX1_give_39 rfl (lv_at hl 1 rfl) ?_
      obtain ⟨rr6, hrr6, hf⟩ := bind_s hf
      refine g0_cV (rm := (6, 138)) (As := [.int w4_4, .int p1]) (rest := []) ⟨hx, hb, hml, hown, hts⟩ hG hR hS (m1_lostBy l G K (ov I [(905, (o + 85), w4_i_o85_lost)]) J (ov X [(904, (o + 85), w4_x0_o85_yard)]) (ova A [((o + 86), w4_a_o85_fuel), ((o + 87), w4_a_o85_wet), ((o + 88), w4_a_o85_heat), ((o + 89), w4_a_o85_burns), ((y + 2), a_y_fuel), ((y + 3), a_y_burns)]) B Q o y (Sh.ov rfl sh_o) (Sh.ov rfl sh_y) (Sh.ov rfl sh_o85) sh_o7 ((congrFun (ov_no rfl) _).trans x_o7_yard) ((congrFun (ov_no rfl) _).trans x_o_tried) ((congrFun (ov_no rfl) _).trans x_o_now) (nd_sub hN_A [0, 1, 2, 3, 4, 5] (by decide) rfl) w4_4 p1 i_y_columns i_y_rows i_y_wind w4_i_o85_lost w4_x0_o85_yard w4_a_o85_fuel w4_a_o85_wet w4_a_o85_heat w4_a_o85_burns a_y_fuel a_y_burns ((congrFun (ov_no rfl) _).trans e_i_y_columns) ((congrFun (ov_no rfl) _).trans e_i_y_rows) ((congrFun (ov_no rfl) _).trans e_i_y_wind) (ov_get 0 rfl rfl) (ov_get 0 rfl rfl) (ova_get 0 hN_A rfl) (ova_get 1 hN_A rfl) (ova_get 2 hN_A rfl) (ova_get 3 hN_A rfl) (ova_get 4 hN_A rfl) (ova_get 5 hN_A rfl) rr6 hrr6) (cwV 2 hts gi_X1_484 rfl rfl rfl hd_X1_lostBy ⟨Nat.le_of_ble_eq_true rfl, Nat.le_of_ble_eq_true rfl⟩) sh_o.1 rfl rfl hl.1 (Nat.le_of_ble_eq_true rfl) dX1_give_40 ⟨Nat.le_refl _, Nat.le_refl _⟩ rfl (fun H locs hR hS => ?_)
      have hR : RS G K (ov I [(905, (o + 85), rr6.2.1)]) J (ov X [(904, (o + 85), (some y))]) (ova A [((o + 86), rr6.2.2.1), ((o + 87), rr6.2.2.2.1), ((o + 88), rr6.2.2.2.2.1), ((o + 89), rr6.2.2.2.2.2), ((y + 2), a_y_fuel), ((y + 3), a_y_burns)]) B Q H := hR.to (ov_merge (l := [(905, (o + 85), w4_i_o85_lost)]) rfl [0] [(905, (o + 85), rr6.2.1)] rfl rfl) rfl (ov_merge (l := [(904, (o + 85), w4_x0_o85_yard)]) rfl [0] [(904, (o + 85), (some y))] rfl rfl) (ova_merge (l := [((o + 86), w4_a_o85_fuel), ((o + 87), w4_a_o85_wet), ((o + 88), w4_a_o85_heat), ((o + 89), w4_a_o85_burns), ((y + 2), a_y_fuel), ((y + 3), a_y_burns)]) hN_A [0, 1, 2, 3, 4, 5] [((o + 86), rr6.2.2.1), ((o + 87), rr6.2.2.2.1), ((o + 88), rr6.2.2.2.2.1), ((o + 89), rr6.2.2.2.2.2), ((y + 2), a_y_fuel), ((y + 3), a_y_burns)] rfl rfl) rfl rfl
      refine lv_istore (lv' := [(5, .int rr6.1), (0, .ref o), (1, .int p1), (2, .int w4_2), (3, .int w4_3), (4, .int w4_4)]) hx hb dX1_give_43 hl (by decide) rfl (fun ls hl => ?_)
      refine lv_iload hx hb dX1_give_45 (lv_at hl 0 rfl) ?_
      refine lv_iload_n hx hb dX1_give_47 rfl (lv_at hl 4 rfl) ?_
      have hj60 : ∀ (j60_2 : Int32) (j60_3 : Int32), f1_give_j60 y w4_4 rr6 j60_2 j60_3 = some o4 → ∀ (H : Heap) (locs : List Loc) (ls : Array Slot), RS G K (ov I [(905, (o + 85), rr6.2.1)]) J (ov X [(904, (o + 85), (some y))]) (ova A [((o + 86), rr6.2.2.1), ((o + 87), rr6.2.2.2.1), ((o + 88), rr6.2.2.2.2.1), ((o + 89), rr6.2.2.2.2.2), ((y + 2), a_y_fuel), ((y + 3), a_y_burns)]) B Q H → va_S (gA G) s.heap H locs → lv_has ls 6 [(0, .ref o), (1, .int p1), (2, .int j60_2), (3, .int j60_3), (4, .int w4_4)] → W p l e ({ frames := 7, cells := 0, slots := 0, locals := 162 } : Room) s m args below meth c H locs 0 0 Z (F0 m 60 ls []) := by
        intro j60_2 j60_3 hf H locs ls hR hS hl
        unfold f1_give_j60 at hf
        obtain ⟨v7, ev7, hf⟩ := lt_some hf
        refine lv_iinc (k := 4) (v := v7) (lv' := [(4, .int v7), (0, .ref o), (1, .int p1), (2, .int j60_2), (3, .int j60_3)]) hx hb dX1_give_60 hl rfl (by rw [ev7]; rfl) (by decide) rfl (fun ls hl => ?_)
        refine lv_goto (tgt := 21) hx hb dX1_give_63 (by decide) ?_
        obtain rfl := some_i hf
        exact hk4 _ _ _ hR hS (lv_sub hl [1, 2, 3, 4, 0] rfl)
      refine lv_icmp_lt (tgt := 54) hx hb dX1_give_48 (by decide) (fun c8 => ?_) (fun c8 => ?_)
      · have hf := ite_t c8 hf
        refine lv_iload hx hb dX1_give_54 (lv_at hl 0 rfl) ?_
        refine lv_istore_n (lv' := [(3, .int rr6.1), (5, .int rr6.1), (0, .ref o), (1, .int p1), (2, .int w4_2), (4, .int w4_4)]) hx hb dX1_give_56 rfl hl (by decide) rfl (fun ls hl => ?_)
        refine lv_iload hx hb dX1_give_57 (lv_at hl 5 rfl) ?_
        refine lv_istore_n (lv' := [(2, .int w4_4), (3, .int rr6.1), (5, .int rr6.1), (0, .ref o), (1, .int p1), (4, .int w4_4)]) hx hb dX1_give_59 rfl hl (by decide) rfl (fun ls hl => ?_)
        exact hj60 w4_4 rr6.1 hf _ _ _ hR hS (lv_sub hl [3, 4, 0, 1, 5] rfl)
      · have hf := ite_f c8 hf
        refine lv_goto (tgt := 60) hx hb dX1_give_51 (by decide) ?_
        exact hj60 w4_2 w4_3 hf _ _ _ hR hS (lv_sub hl [1, 2, 3, 4, 5] rfl)
  · have hf := ite_t c2 hf
    refine lv_iconst (v := -1) hx hb dX1_give_7 li_m1 ?_
    obtain rfl := some_i hf
    exact hend _ _ _ _ dX1_give_8 hR hS
noncomputable def f1_enough_e5_0 (x5_0 : Int32 × Int32 × (Option Nat) × (Nat → Int32) × (Nat → Int32) × (Nat → Int32) × (Nat → Int32)) : Option (Int32 × Int32 × (Option Nat) × (Nat → Int32) × (Nat → Int32) × (Nat → Int32) × (Nat → Int32)) :=
  some (x5_0.1, x5_0.2.1, x5_0.2.2.1, x5_0.2.2.2.1, x5_0.2.2.2.2.1, x5_0.2.2.2.2.2.1, x5_0.2.2.2.2.2.2)

noncomputable def f1_enough_e5_1 (x5_1 : Int32 × Int32 × (Option Nat) × (Nat → Int32) × (Nat → Int32) × (Nat → Int32) × (Nat → Int32)) : Option (Int32 × Int32 × (Option Nat) × (Nat → Int32) × (Nat → Int32) × (Nat → Int32) × (Nat → Int32)) :=
  some x5_1

noncomputable def f1_enough_e8_0 (y : Nat) (w5_3 : Int32) (x8_0 : Int32 × (Nat → Int32) × (Nat → Int32) × (Nat → Int32) × (Nat → Int32)) : Option ((Int32 × Int32 × (Option Nat) × (Nat → Int32) × (Nat → Int32) × (Nat → Int32) × (Nat → Int32)) ⊕ ((Int32 × Int32 × (Option Nat) × (Nat → Int32) × (Nat → Int32) × (Nat → Int32) × (Nat → Int32)) ⊕ (Int32 × Int32 × (Option Nat) × (Nat → Int32) × (Nat → Int32) × (Nat → Int32) × (Nat → Int32)))) :=
  (f12_burning x8_0.2.2.2.2).bind fun rr9 =>
  if rr9 = 0 then
    some (.inr (.inl (w5_3, x8_0.1, (some y), x8_0.2.1, x8_0.2.2.1, x8_0.2.2.2.1, x8_0.2.2.2.2)))
  else
    lt (w5_3 + (1 : Int32)) fun v11 =>
    some (.inl (v11, x8_0.1, (some y), x8_0.2.1, x8_0.2.2.1, x8_0.2.2.2.1, x8_0.2.2.2.2))

noncomputable def f1_enough_s8 (p1 : Int32) (p2 : Int32) (i_y_columns : Int32) (i_y_rows : Int32) (i_y_wind : Int32) (w5_3 : Int32) (w8_4 : Int32) (w8_i_o85_lost : Int32) (w8_a_o85_fuel : Nat → Int32) (w8_a_o85_wet : Nat → Int32) (w8_a_o85_heat : Nat → Int32) (w8_a_o85_burns : Nat → Int32) : Option ((Int32 × Int32 × (Nat → Int32) × (Nat → Int32) × (Nat → Int32) × (Nat → Int32)) ⊕ (Int32 × (Nat → Int32) × (Nat → Int32) × (Nat → Int32) × (Nat → Int32))) :=
  if p2 ≤ w8_4 then
    some (.inr (w8_i_o85_lost, w8_a_o85_fuel, w8_a_o85_wet, w8_a_o85_heat, w8_a_o85_burns))
  else
    (f12_burning w8_a_o85_burns).bind fun rr13 =>
    if rr13 ≤ 0 then
      some (.inr (w8_i_o85_lost, w8_a_o85_fuel, w8_a_o85_wet, w8_a_o85_heat, w8_a_o85_burns))
    else
      (f12_aimed p1 i_y_columns i_y_rows i_y_wind w8_a_o85_fuel w8_a_o85_heat w8_a_o85_burns).bind fun rr15 =>
      (f12_minute rr15.1 w5_3 i_y_columns i_y_rows i_y_wind w8_i_o85_lost w8_a_o85_fuel w8_a_o85_wet rr15.2 w8_a_o85_burns).bind fun rr16 =>
      lt (w8_4 + (1 : Int32)) fun v17 =>
      some (.inl (v17, rr16.1, rr16.2.1, rr16.2.2.1, rr16.2.2.2.1, rr16.2.2.2.2))

noncomputable def f1_enough_s5 (p1 : Int32) (p2 : Int32) (i_y_columns : Int32) (i_y_rows : Int32) (i_y_wind : Int32) (a_y_fuel : Nat → Int32) (a_y_burns : Nat → Int32) (y : Nat) (w5_3 : Int32) (w5_i_o85_lost : Int32) (w5_x0_o85_yard : Option Nat) (w5_a_o85_fuel : Nat → Int32) (w5_a_o85_wet : Nat → Int32) (w5_a_o85_heat : Nat → Int32) (w5_a_o85_burns : Nat → Int32) : Option ((Int32 × Int32 × (Option Nat) × (Nat → Int32) × (Nat → Int32) × (Nat → Int32) × (Nat → Int32)) ⊕ ((Int32 × Int32 × (Option Nat) × (Nat → Int32) × (Nat → Int32) × (Nat → Int32) × (Nat → Int32)) ⊕ (Int32 × Int32 × (Option Nat) × (Nat → Int32) × (Nat → Int32) × (Nat → Int32) × (Nat → Int32)))) :=
  if (200 : Int32) < w5_3 then
    some (.inr (.inr ((-1 : Int32), w5_i_o85_lost, w5_x0_o85_yard, w5_a_o85_fuel, w5_a_o85_wet, w5_a_o85_heat, w5_a_o85_burns)))
  else
    (f12_begin w5_i_o85_lost w5_a_o85_fuel w5_a_o85_wet w5_a_o85_burns a_y_fuel a_y_burns).bind fun rr7 =>
    (whl (fun (s8 : Int32 × Int32 × (Nat → Int32) × (Nat → Int32) × (Nat → Int32) × (Nat → Int32)) => f1_enough_s8 p1 p2 i_y_columns i_y_rows i_y_wind w5_3 s8.1 s8.2.1 s8.2.2.1 s8.2.2.2.1 s8.2.2.2.2.1 s8.2.2.2.2.2) FU ((0 : Int32), rr7.1, rr7.2.1, rr7.2.2.1, w5_a_o85_heat, rr7.2.2.2)).bind fun rl8 =>
    f1_enough_e8_0 y w5_3 rl8

noncomputable def f1_enough (p1 : Int32) (p2 : Int32) (y : Nat) (i_y_columns : Int32) (i_y_rows : Int32) (i_y_wind : Int32) (i_o85_lost : Int32) (x0_o85_yard : Option Nat) (a_o85_fuel : Nat → Int32) (a_o85_wet : Nat → Int32) (a_o85_heat : Nat → Int32) (a_o85_burns : Nat → Int32) (a_y_fuel : Nat → Int32) (a_y_burns : Nat → Int32) : Option (Int32 × Int32 × (Option Nat) × (Nat → Int32) × (Nat → Int32) × (Nat → Int32) × (Nat → Int32)) :=
  (f4_isAim p1 i_y_columns i_y_rows).bind fun rr1 =>
  if rr1 = 0 then
    some ((-2 : Int32), i_o85_lost, x0_o85_yard, a_o85_fuel, a_o85_wet, a_o85_heat, a_o85_burns)
  else
    (f1_isIn p2 (1 : Int32) (60 : Int32)).bind fun rr3 =>
    if rr3 = 0 then
      some ((-2 : Int32), i_o85_lost, x0_o85_yard, a_o85_fuel, a_o85_wet, a_o85_heat, a_o85_burns)
    else
      (whl (fun (s5 : Int32 × Int32 × (Option Nat) × (Nat → Int32) × (Nat → Int32) × (Nat → Int32) × (Nat → Int32)) => f1_enough_s5 p1 p2 i_y_columns i_y_rows i_y_wind a_y_fuel a_y_burns y s5.1 s5.2.1 s5.2.2.1 s5.2.2.2.1 s5.2.2.2.2.1 s5.2.2.2.2.2.1 s5.2.2.2.2.2.2) FU ((0 : Int32), i_o85_lost, x0_o85_yard, a_o85_fuel, a_o85_wet, a_o85_heat, a_o85_burns)).bind fun rl5 =>
      Sum.elim (f1_enough_e5_0) (f1_enough_e5_1) rl5
set_option maxHeartbeats 4000000 in
theorem m1_enough (l : Launch) (G : gG) (K : gK) (I : gI) (J : gJ) (X : gX) (A : gI) (B : gJ) (Q : gX) (o : Nat) (y : Nat) (sh_o : Sh K X o 0 rows0) (sh_y : Sh K X y 3 rows3) (sh_o7 : K (o + 7) = some (.inl 2)) (sh_o85 : Sh K X (o + 85) 9 rows9) (x_o7_yard : X 200 (o + 7) = some y) (x_o_now : X 9 o = some (o + 7)) (x_o_tried : X 36 o = some (o + 85)) (hN_A : nda [(o + 86), (o + 87), (o + 88), (o + 89), (y + 2), (y + 3)]) (p1 : Int32) (p2 : Int32) (i_y_columns : Int32) (i_y_rows : Int32) (i_y_wind : Int32) (i_o85_lost : Int32) (x0_o85_yard : Option Nat) (a_o85_fuel : Nat → Int32) (a_o85_wet : Nat → Int32) (a_o85_heat : Nat → Int32) (a_o85_burns : Nat → Int32) (a_y_fuel : Nat → Int32) (a_y_burns : Nat → Int32) (e_i_y_columns : I 304 y = i_y_columns) (e_i_y_rows : I 305 y = i_y_rows) (e_i_y_wind : I 314 y = i_y_wind) (e_i_o85_lost : I 905 (o + 85) = i_o85_lost) (e_x0_o85_yard : X 904 (o + 85) = x0_o85_yard) (e_a_o85_fuel : A (o + 86) = a_o85_fuel) (e_a_o85_wet : A (o + 87) = a_o85_wet) (e_a_o85_heat : A (o + 88) = a_o85_heat) (e_a_o85_burns : A (o + 89) = a_o85_burns) (e_a_y_fuel : A (y + 2) = a_y_fuel) (e_a_y_burns : A (y + 3) = a_y_burns) (out : Int32 × Int32 × (Option Nat) × (Nat → Int32) × (Nat → Int32) × (Nat → Int32) × (Nat → Int32)) (hf : f1_enough p1 p2 y i_y_columns i_y_rows i_y_wind i_o85_lost x0_o85_yard a_o85_fuel a_o85_wet a_o85_heat a_o85_burns a_y_fuel a_y_burns = some out) : GMet l yX1_enough cX1_enough 5 (some .int) (6) (138) G [.ref o, .int p1, .int p2] K I J X A B Q (some (.int out.1)) K (ov I [(905, (o + 85), out.2.1)]) J (ov X [(904, (o + 85), out.2.2.1)]) (ova A [((o + 86), out.2.2.2.1), ((o + 87), out.2.2.2.2.1), ((o + 88), out.2.2.2.2.2.1), ((o + 89), out.2.2.2.2.2.2), ((y + 2), a_y_fuel), ((y + 3), a_y_burns)]) B Q 0 0 := by
  refine GMet.of (y := yX1_enough) rfl (Nat.le_of_ble_eq_true rfl) rfl ?_
  intro p e s m below meth c ls hx hb hr hml hlocks hts hown hname hG hR hl
  have hown : s.vm.findClass RX1 = some m.cls := hown
  have k_a_o85_fuel : K (o + 86) = some (.inr (0, 64)) := (sh_o85.2 0 _ rfl).1
  have k_a_o85_wet : K (o + 87) = some (.inr (0, 64)) := (sh_o85.2 1 _ rfl).1
  have k_a_o85_heat : K (o + 88) = some (.inr (0, 64)) := (sh_o85.2 2 _ rfl).1
  have k_a_o85_burns : K (o + 89) = some (.inr (1, 64)) := (sh_o85.2 3 _ rfl).1
  have k_a_y_fuel : K (y + 2) = some (.inr (0, 64)) := (sh_y.2 1 _ rfl).1
  have k_a_y_burns : K (y + 3) = some (.inr (1, 64)) := (sh_y.2 2 _ rfl).1
  have hR : RS G K (ov I [(905, (o + 85), i_o85_lost)]) J (ov X [(904, (o + 85), x0_o85_yard)]) (ova A [((o + 86), a_o85_fuel), ((o + 87), a_o85_wet), ((o + 88), a_o85_heat), ((o + 89), a_o85_burns), ((y + 2), a_y_fuel), ((y + 3), a_y_burns)]) B Q s.heap := hR.to (Eq.symm (ov_sc e_i_o85_lost rfl)) rfl (Eq.symm (ov_sc e_x0_o85_yard rfl)) (Eq.symm (ova_sc e_a_o85_fuel (ova_sc e_a_o85_wet (ova_sc e_a_o85_heat (ova_sc e_a_o85_burns (ova_sc e_a_y_fuel (ova_sc e_a_y_burns rfl))))))) rfl rfl
  have hS : va_S (gA G) s.heap s.heap [] := va_S.rf
  have hend : ∀ (pc : Nat) (H : Heap) (locs : List Loc) (ls : Array Slot), decode cX1_enough pc = .ok (.ireturn, 1) → RS G K (ov I [(905, (o + 85), out.2.1)]) J (ov X [(904, (o + 85), out.2.2.1)]) (ova A [((o + 86), out.2.2.2.1), ((o + 87), out.2.2.2.2.1), ((o + 88), out.2.2.2.2.2.1), ((o + 89), out.2.2.2.2.2.2), ((y + 2), a_y_fuel), ((y + 3), a_y_burns)]) B Q H → va_S (gA G) s.heap H locs → W p l e ({ frames := 6, cells := 0, slots := 0, locals := 138 } : Room) s m ([.ref o, .int p1, .int p2] : List Value).toArray below meth c H locs 0 0 (MQ below (gQ G (some (.int out.1)) K (ov I [(905, (o + 85), out.2.1)]) J (ov X [(904, (o + 85), out.2.2.1)]) (ova A [((o + 86), out.2.2.2.1), ((o + 87), out.2.2.2.2.1), ((o + 88), out.2.2.2.2.2.1), ((o + 89), out.2.2.2.2.2.2), ((y + 2), a_y_fuel), ((y + 3), a_y_burns)]) B Q) ([.ref o, .int p1, .int p2] : List Value).toArray s 0 0 (gA G)) (F0 m pc ls [.int out.1]) := fun pc H locs ls hd hR hS => g_iret hx hb hr hlocks hG hR hS rfl hd
  generalize MQ below (gQ G (some (.int out.1)) K (ov I [(905, (o + 85), out.2.1)]) J (ov X [(904, (o + 85), out.2.2.1)]) (ova A [((o + 86), out.2.2.2.1), ((o + 87), out.2.2.2.2.1), ((o + 88), out.2.2.2.2.2.1), ((o + 89), out.2.2.2.2.2.2), ((y + 2), a_y_fuel), ((y + 3), a_y_burns)]) B Q) ([.ref o, .int p1, .int p2] : List Value).toArray s 0 0 (gA G) = Z at hend ⊢
  generalize ([.ref o, .int p1, .int p2] : List Value).toArray = args at hts hend ⊢
  unfold f1_enough at hf
  refine lv_aload_n hx hb dX1_enough_0 rfl (lv_at hl 0 rfl) ?_
  refine g_getr (b := (o + 7)) hx hb hts hown hG hR gFx_X1_96_0 sh_o.1 ((congrFun (ov_no rfl) _).trans x_o_now) dX1_enough_1 ?_
  refine g_getr (b := y) hx hb hts hown hG hR gFx_X1_241_2 sh_o7 ((congrFun (ov_no rfl) _).trans x_o7_yard) dX1_enough_4 ?_
  refine lv_iload_n hx hb dX1_enough_7 rfl (lv_at hl 1 rfl) ?_
  obtain ⟨rr1, hrr1, hf⟩ := bind_s hf
  refine g0_cV (rm := (2, 44)) (As := [.int p1]) (rest := []) ⟨hx, hb, hml, hown, hts⟩ hG hR hS (m4_isAim l G K (ov I [(905, (o + 85), i_o85_lost)]) J (ov X [(904, (o + 85), x0_o85_yard)]) (ova A [((o + 86), a_o85_fuel), ((o + 87), a_o85_wet), ((o + 88), a_o85_heat), ((o + 89), a_o85_burns), ((y + 2), a_y_fuel), ((y + 3), a_y_burns)]) B Q y (Sh.ov rfl sh_y) p1 i_y_columns i_y_rows ((congrFun (ov_no rfl) _).trans e_i_y_columns) ((congrFun (ov_no rfl) _).trans e_i_y_rows) rr1 hrr1) (cwV 1 hts gi_X1_436 rfl rfl rfl hd_X4_isAim ⟨Nat.le_of_ble_eq_true rfl, Nat.le_of_ble_eq_true rfl⟩) sh_y.1 rfl rfl hl.1 (Nat.le_of_ble_eq_true rfl) dX1_enough_8 ⟨Nat.le_refl _, Nat.le_refl _⟩ rfl (fun H locs hR hS => ?_)
  refine lv_if_eq (tgt := 24) hx hb dX1_enough_11 (by decide) (fun c2 => ?_) (fun c2 => ?_)
  · have hf := ite_t c2 hf
    refine lv_bipush (v := -2) hx hb dX1_enough_24 lb_m2 ?_
    obtain rfl := some_i hf
    exact hend _ _ _ _ dX1_enough_26 hR hS
  · have hf := ite_f c2 hf
    refine lv_iload_n hx hb dX1_enough_14 rfl (lv_at hl 2 rfl) ?_
    refine lv_iconst (v := 1) hx hb dX1_enough_15 li_1 ?_
    refine lv_bipush (v := 60) hx hb dX1_enough_16 lb_60 ?_
    obtain ⟨rr3, hrr3, hf⟩ := bind_s hf
    refine g0_cS (rm := (0, 0)) (As := [.int p2, .int (1 : Int32), .int (60 : Int32)]) (rest := []) ⟨hx, hb, hml, hown, hts⟩ hG hR hS (m1_isIn l G K (ov I [(905, (o + 85), i_o85_lost)]) J (ov X [(904, (o + 85), x0_o85_yard)]) (ova A [((o + 86), a_o85_fuel), ((o + 87), a_o85_wet), ((o + 88), a_o85_heat), ((o + 89), a_o85_burns), ((y + 2), a_y_fuel), ((y + 3), a_y_burns)]) B Q p2 (1 : Int32) (60 : Int32) rr3 hrr3) (cwS 3 hts gi_X1_271 rfl rfl rfl hd_X1_isIn ⟨Nat.le_of_ble_eq_true rfl, Nat.le_of_ble_eq_true rfl⟩) rfl hl.1 (Nat.le_of_ble_eq_true rfl) dX1_enough_18 ⟨Nat.le_refl _, Nat.le_refl _⟩ rfl (fun H locs hR hS => ?_)
    refine lv_if_ne (tgt := 27) hx hb dX1_enough_21 (by decide) (fun c4 => ?_) (fun c4 => ?_)
    · have hf := ite_f c4 hf
      refine lv_iconst (v := 0) hx hb dX1_enough_27 li_0 ?_
      refine lv_istore_n (lv' := [(3, .int (0 : Int32)), (0, .ref o), (1, .int p1), (2, .int p2)]) hx hb dX1_enough_28 rfl hl (by decide) rfl (fun ls hl => ?_)
      obtain ⟨rl5, hw5, hfo5⟩ := bind_s hf
      have hx5_0 : ∀ (x5_0 : Int32 × Int32 × (Option Nat) × (Nat → Int32) × (Nat → Int32) × (Nat → Int32) × (Nat → Int32)), f1_enough_e5_0 x5_0 = some out → ∀ (H : Heap) (locs : List Loc) (ls : Array Slot), RS G K (ov I [(905, (o + 85), x5_0.2.1)]) J (ov X [(904, (o + 85), x5_0.2.2.1)]) (ova A [((o + 86), x5_0.2.2.2.1), ((o + 87), x5_0.2.2.2.2.1), ((o + 88), x5_0.2.2.2.2.2.1), ((o + 89), x5_0.2.2.2.2.2.2), ((y + 2), a_y_fuel), ((y + 3), a_y_burns)]) B Q H → va_S (gA G) s.heap H locs → lv_has ls 5 [(0, .ref o), (3, .int x5_0.1)] → W p l e ({ frames := 6, cells := 0, slots := 0, locals := 138 } : Room) s m args below meth c H locs 0 0 Z (F0 m 101 ls []) := by
        intro x5_0 hf H locs ls hR hS hl
        unfold f1_enough_e5_0 at hf
        refine lv_iload_n hx hb dX1_enough_101 rfl (lv_at hl 1 rfl) ?_
        obtain rfl := some_i hf
        exact hend _ _ _ _ dX1_enough_102 hR hS
      have hx5_1 : ∀ (x5_1 : Int32 × Int32 × (Option Nat) × (Nat → Int32) × (Nat → Int32) × (Nat → Int32) × (Nat → Int32)), f1_enough_e5_1 x5_1 = some out → ∀ (pc : Nat) (H : Heap) (locs : List Loc) (ls : Array Slot), decode cX1_enough pc = .ok (.ireturn, 1) → RS G K (ov I [(905, (o + 85), x5_1.2.1)]) J (ov X [(904, (o + 85), x5_1.2.2.1)]) (ova A [((o + 86), x5_1.2.2.2.1), ((o + 87), x5_1.2.2.2.2.1), ((o + 88), x5_1.2.2.2.2.2.1), ((o + 89), x5_1.2.2.2.2.2.2), ((y + 2), a_y_fuel), ((y + 3), a_y_burns)]) B Q H → va_S (gA G) s.heap H locs → W p l e ({ frames := 6, cells := 0, slots := 0, locals := 138 } : Room) s m args below meth c H locs 0 0 Z (F0 m pc ls [.int x5_1.1]) := by
        intro x5_1 hf pc H locs ls hd hR hS
        unfold f1_enough_e5_1 at hf
        obtain rfl := some_i hf
        exact hend _ _ _ _ hd hR hS
      refine whl_walk (P := fun (s5 : Int32 × Int32 × (Option Nat) × (Nat → Int32) × (Nat → Int32) × (Nat → Int32) × (Nat → Int32)) => ∀ (H : Heap) (locs : List Loc) (ls : Array Slot), RS G K (ov I [(905, (o + 85), s5.2.1)]) J (ov X [(904, (o + 85), s5.2.2.1)]) (ova A [((o + 86), s5.2.2.2.1), ((o + 87), s5.2.2.2.2.1), ((o + 88), s5.2.2.2.2.2.1), ((o + 89), s5.2.2.2.2.2.2), ((y + 2), a_y_fuel), ((y + 3), a_y_burns)]) B Q H → va_S (gA G) s.heap H locs → lv_has ls 5 [(0, .ref o), (1, .int p1), (2, .int p2), (3, .int s5.1)] → W p l e ({ frames := 6, cells := 0, slots := 0, locals := 138 } : Room) s m args below meth c H locs 0 0 Z (F0 m 29 ls [])) (r := rl5) ?_ FU _ hw5 _ _ _ hR hS (lv_sub hl [1, 2, 3, 0] rfl)
      clear hR hS hl hf
      intro s5 o5 hf hk5 H locs ls hR hS hl
      obtain ⟨w5_3, w5_i_o85_lost, w5_x0_o85_yard, w5_a_o85_fuel, w5_a_o85_wet, w5_a_o85_heat, w5_a_o85_burns⟩ := s5
      have hf : f1_enough_s5 p1 p2 i_y_columns i_y_rows i_y_wind a_y_fuel a_y_burns y w5_3 w5_i_o85_lost w5_x0_o85_yard w5_a_o85_fuel w5_a_o85_wet w5_a_o85_heat w5_a_o85_burns = some o5 := hf
      have hR : RS G K (ov I [(905, (o + 85), w5_i_o85_lost)]) J (ov X [(904, (o + 85), w5_x0_o85_yard)]) (ova A [((o + 86), w5_a_o85_fuel), ((o + 87), w5_a_o85_wet), ((o + 88), w5_a_o85_heat), ((o + 89), w5_a_o85_burns), ((y + 2), a_y_fuel), ((y + 3), a_y_burns)]) B Q H := hR
      have hl : lv_has ls 5 [(0, .ref o), (1, .int p1), (2, .int p2), (3, .int w5_3)] := hl
      unfold f1_enough_s5 at hf
      refine lv_iload_n hx hb dX1_enough_29 rfl (lv_at hl 3 rfl) ?_
      refine lv_sipush (v := 200) hx hb dX1_enough_30 ls_200 ?_
      refine lv_icmp_gt (tgt := 109) hx hb dX1_enough_33 (by decide) (fun c6 => ?_) (fun c6 => ?_)
      · have hf := ite_t c6 hf
        refine lv_iconst (v := -1) hx hb dX1_enough_109 li_m1 ?_
        obtain rfl := some_i hf
        replace hk5 : _ = rl5 := hk5
        subst hk5
        exact hx5_1 ((-1 : Int32), w5_i_o85_lost, w5_x0_o85_yard, w5_a_o85_fuel, w5_a_o85_wet, w5_a_o85_heat, w5_a_o85_burns) (el_r hfo5) _ _ _ _ dX1_enough_110 hR hS
      · have hf := ite_f c6 hf
        refine lv_aload_n hx hb dX1_enough_36 rfl (lv_at hl 0 rfl) ?_
        refine g_getr (b := (o + 85)) hx hb hts hown hG hR gFx_X1_173_0 sh_o.1 ((congrFun (ov_no rfl) _).trans x_o_tried) dX1_enough_37 ?_
        refine lv_aload_n hx hb dX1_enough_40 rfl (lv_at hl 0 rfl) ?_
        refine g_getr (b := (o + 7)) hx hb hts hown hG hR gFx_X1_96_0 sh_o.1 ((congrFun (ov_no rfl) _).trans x_o_now) dX1_enough_41 ?_
        refine g_getr (b := y) hx hb hts hown hG hR gFx_X1_241_2 sh_o7 ((congrFun (ov_no rfl) _).trans x_o7_yard) dX1_enough_44 ?_
        obtain ⟨rr7, hrr7, hf⟩ := bind_s hf
        refine g0_cVv (rm := (0, 0)) (As := [.ref y]) (rest := []) ⟨hx, hb, hml, hown, hts⟩ hG hR hS (m12_begin l G K (ov I [(905, (o + 85), w5_i_o85_lost)]) J (ov X [(904, (o + 85), w5_x0_o85_yard)]) (ova A [((o + 86), w5_a_o85_fuel), ((o + 87), w5_a_o85_wet), ((o + 88), w5_a_o85_heat), ((o + 89), w5_a_o85_burns), ((y + 2), a_y_fuel), ((y + 3), a_y_burns)]) B Q (o + 85) y (Sh.ov rfl sh_o85) (Sh.ov rfl sh_y) (nd_sub hN_A [0, 1, 3, 4, 5] (by decide) rfl) w5_i_o85_lost w5_x0_o85_yard w5_a_o85_fuel w5_a_o85_wet w5_a_o85_burns a_y_fuel a_y_burns (ov_get 0 rfl rfl) (ov_get 0 rfl rfl) (ova_get 0 hN_A rfl) (ova_get 1 hN_A rfl) (ova_get 3 hN_A rfl) (ova_get 4 hN_A rfl) (ova_get 5 hN_A rfl) rr7 hrr7) (cwV 1 hts gi_X1_439 rfl rfl rfl hd_X12_begin ⟨Nat.le_of_ble_eq_true rfl, Nat.le_of_ble_eq_true rfl⟩) sh_o85.1 rfl rfl hl.1 (Nat.le_of_ble_eq_true rfl) dX1_enough_47 ⟨Nat.le_refl _, Nat.le_refl _⟩ rfl (fun H locs hR hS => ?_)
        have hR : RS G K (ov I [(905, (o + 85), rr7.1)]) J (ov X [(904, (o + 85), (some y))]) (ova A [((o + 86), rr7.2.1), ((o + 87), rr7.2.2.1), ((o + 88), w5_a_o85_heat), ((o + 89), rr7.2.2.2), ((y + 2), a_y_fuel), ((y + 3), a_y_burns)]) B Q H := hR.to (ov_merge (l := [(905, (o + 85), w5_i_o85_lost)]) rfl [0] [(905, (o + 85), rr7.1)] rfl rfl) rfl (ov_merge (l := [(904, (o + 85), w5_x0_o85_yard)]) rfl [0] [(904, (o + 85), (some y))] rfl rfl) (ova_merge (l := [((o + 86), w5_a_o85_fuel), ((o + 87), w5_a_o85_wet), ((o + 88), w5_a_o85_heat), ((o + 89), w5_a_o85_burns), ((y + 2), a_y_fuel), ((y + 3), a_y_burns)]) hN_A [0, 1, 3, 4, 5] [((o + 86), rr7.2.1), ((o + 87), rr7.2.2.1), ((o + 89), rr7.2.2.2), ((y + 2), a_y_fuel), ((y + 3), a_y_burns)] rfl rfl) rfl rfl
        refine lv_iconst (v := 0) hx hb dX1_enough_50 li_0 ?_
        refine lv_istore (lv' := [(4, .int (0 : Int32)), (0, .ref o), (1, .int p1), (2, .int p2), (3, .int w5_3)]) hx hb dX1_enough_51 hl (by decide) rfl (fun ls hl => ?_)
        obtain ⟨rl8, hw8, hfo8⟩ := bind_s hf
        have hx8_0 : ∀ (x8_0 : Int32 × (Nat → Int32) × (Nat → Int32) × (Nat → Int32) × (Nat → Int32)), f1_enough_e8_0 y w5_3 x8_0 = some o5 → ∀ (H : Heap) (locs : List Loc) (ls : Array Slot), RS G K (ov I [(905, (o + 85), x8_0.1)]) J (ov X [(904, (o + 85), (some y))]) (ova A [((o + 86), x8_0.2.1), ((o + 87), x8_0.2.2.1), ((o + 88), x8_0.2.2.2.1), ((o + 89), x8_0.2.2.2.2), ((y + 2), a_y_fuel), ((y + 3), a_y_burns)]) B Q H → va_S (gA G) s.heap H locs → lv_has ls 5 [(0, .ref o), (1, .int p1), (2, .int p2), (3, .int w5_3)] → W p l e ({ frames := 6, cells := 0, slots := 0, locals := 138 } : Room) s m args below meth c H locs 0 0 Z (F0 m 91 ls []) := by
          intro x8_0 hf H locs ls hR hS hl
          unfold f1_enough_e8_0 at hf
          refine lv_aload_n hx hb dX1_enough_91 rfl (lv_at hl 0 rfl) ?_
          refine g_getr (b := (o + 85)) hx hb hts hown hG hR gFx_X1_173_0 sh_o.1 ((congrFun (ov_no rfl) _).trans x_o_tried) dX1_enough_92 ?_
          obtain ⟨rr9, hrr9, hf⟩ := bind_s hf
          refine g0_cV (rm := (0, 0)) (As := []) (rest := []) ⟨hx, hb, hml, hown, hts⟩ hG hR hS (m12_burning l G K (ov I [(905, (o + 85), x8_0.1)]) J (ov X [(904, (o + 85), (some y))]) (ova A [((o + 86), x8_0.2.1), ((o + 87), x8_0.2.2.1), ((o + 88), x8_0.2.2.2.1), ((o + 89), x8_0.2.2.2.2), ((y + 2), a_y_fuel), ((y + 3), a_y_burns)]) B Q (o + 85) (Sh.ov rfl sh_o85) x8_0.2.2.2.2 (ova_get 3 hN_A rfl) rr9 hrr9) (cwV 0 hts gi_X1_445 rfl rfl rfl hd_X12_burning ⟨Nat.le_of_ble_eq_true rfl, Nat.le_of_ble_eq_true rfl⟩) sh_o85.1 rfl rfl hl.1 (Nat.le_of_ble_eq_true rfl) dX1_enough_95 ⟨Nat.le_refl _, Nat.le_refl _⟩ rfl (fun H locs hR hS => ?_)
          refine lv_if_ne (tgt := 103) hx hb dX1_enough_98 (by decide) (fun c10 => ?_) (fun c10 => ?_)
          · have hf := ite_f c10 hf
            obtain ⟨v11, ev11, hf⟩ := lt_some hf
            refine lv_iinc (k := 3) (v := v11) (lv' := [(3, .int v11), (0, .ref o), (1, .int p1), (2, .int p2)]) hx hb dX1_enough_103 hl rfl (by rw [ev11]; rfl) (by decide) rfl (fun ls hl => ?_)
            refine lv_goto (tgt := 29) hx hb dX1_enough_106 (by decide) ?_
            obtain rfl := some_i hf
            exact hk5 _ _ _ hR hS (lv_sub hl [1, 2, 3, 0] rfl)
          · have hf := ite_t c10 hf
            obtain rfl := some_i hf
            replace hk5 : _ = rl5 := hk5
            subst hk5
            exact hx5_0 (w5_3, x8_0.1, (some y), x8_0.2.1, x8_0.2.2.1, x8_0.2.2.2.1, x8_0.2.2.2.2) (el_l hfo5) _ _ _ hR hS (lv_sub hl [0, 3] rfl)
        refine whl_walk (P := fun (s8 : Int32 × Int32 × (Nat → Int32) × (Nat → Int32) × (Nat → Int32) × (Nat → Int32)) => ∀ (H : Heap) (locs : List Loc) (ls : Array Slot), RS G K (ov I [(905, (o + 85), s8.2.1)]) J (ov X [(904, (o + 85), (some y))]) (ova A [((o + 86), s8.2.2.1), ((o + 87), s8.2.2.2.1), ((o + 88), s8.2.2.2.2.1), ((o + 89), s8.2.2.2.2.2), ((y + 2), a_y_fuel), ((y + 3), a_y_burns)]) B Q H → va_S (gA G) s.heap H locs → lv_has ls 5 [(0, .ref o), (1, .int p1), (2, .int p2), (3, .int w5_3), (4, .int s8.1)] → W p l e ({ frames := 6, cells := 0, slots := 0, locals := 138 } : Room) s m args below meth c H locs 0 0 Z (F0 m 53 ls [])) (r := rl8) ?_ FU _ hw8 _ _ _ hR hS (lv_sub hl [1, 2, 3, 4, 0] rfl)
        clear hR hS hl hf
        intro s8 o8 hf hk8 H locs ls hR hS hl
        obtain ⟨w8_4, w8_i_o85_lost, w8_a_o85_fuel, w8_a_o85_wet, w8_a_o85_heat, w8_a_o85_burns⟩ := s8
        have hf : f1_enough_s8 p1 p2 i_y_columns i_y_rows i_y_wind w5_3 w8_4 w8_i_o85_lost w8_a_o85_fuel w8_a_o85_wet w8_a_o85_heat w8_a_o85_burns = some o8 := hf
        have hR : RS G K (ov I [(905, (o + 85), w8_i_o85_lost)]) J (ov X [(904, (o + 85), (some y))]) (ova A [((o + 86), w8_a_o85_fuel), ((o + 87), w8_a_o85_wet), ((o + 88), w8_a_o85_heat), ((o + 89), w8_a_o85_burns), ((y + 2), a_y_fuel), ((y + 3), a_y_burns)]) B Q H := hR
        have hl : lv_has ls 5 [(0, .ref o), (1, .int p1), (2, .int p2), (3, .int w5_3), (4, .int w8_4)] := hl
        unfold f1_enough_s8 at hf
        refine lv_iload hx hb dX1_enough_53 (lv_at hl 4 rfl) ?_
        refine lv_iload_n hx hb dX1_enough_55 rfl (lv_at hl 2 rfl) ?_
        refine lv_icmp_ge (tgt := 91) hx hb dX1_enough_56 (by decide) (fun c12 => ?_) (fun c12 => ?_)
        · have hf := ite_t c12 hf
          obtain rfl := some_i hf
          replace hk8 : _ = rl8 := hk8
          subst hk8
          exact hx8_0 (w8_i_o85_lost, w8_a_o85_fuel, w8_a_o85_wet, w8_a_o85_heat, w8_a_o85_burns) hfo8 _ _ _ hR hS (lv_sub hl [0, 1, 2, 3] rfl)
        · have hf := ite_f c12 hf
          refine lv_aload_n hx hb dX1_enough_59 rfl (lv_at hl 0 rfl) ?_
          refine g_getr (b := (o + 85)) hx hb hts hown hG hR gFx_X1_173_0 sh_o.1 ((congrFun (ov_no rfl) _).trans x_o_tried) dX1_enough_60 ?_
          obtain ⟨rr13, hrr13, hf⟩ := bind_s hf
          refine g0_cV (rm := (0, 0)) (As := []) (rest := []) ⟨hx, hb, hml, hown, hts⟩ hG hR hS (m12_burning l G K (ov I [(905, (o + 85), w8_i_o85_lost)]) J (ov X [(904, (o + 85), (some y))]) (ova A [((o + 86), w8_a_o85_fuel), ((o + 87), w8_a_o85_wet), ((o + 88), w8_a_o85_heat), ((o + 89), w8_a_o85_burns), ((y + 2), a_y_fuel), ((y + 3), a_y_burns)]) B Q (o + 85) (Sh.ov rfl sh_o85) w8_a_o85_burns (ova_get 3 hN_A rfl) rr13 hrr13) (cwV 0 hts gi_X1_445 rfl rfl rfl hd_X12_burning ⟨Nat.le_of_ble_eq_true rfl, Nat.le_of_ble_eq_true rfl⟩) sh_o85.1 rfl rfl hl.1 (Nat.le_of_ble_eq_true rfl) dX1_enough_63 ⟨Nat.le_refl _, Nat.le_refl _⟩ rfl (fun H locs hR hS => ?_)
          refine lv_if_le (tgt := 91) hx hb dX1_enough_66 (by decide) (fun c14 => ?_) (fun c14 => ?_)
          · have hf := ite_t c14 hf
            obtain rfl := some_i hf
            replace hk8 : _ = rl8 := hk8
            subst hk8
            exact hx8_0 (w8_i_o85_lost, w8_a_o85_fuel, w8_a_o85_wet, w8_a_o85_heat, w8_a_o85_burns) hfo8 _ _ _ hR hS (lv_sub hl [0, 1, 2, 3] rfl)
          · have hf := ite_f c14 hf
            refine lv_aload_n hx hb dX1_enough_69 rfl (lv_at hl 0 rfl) ?_
            refine g_getr (b := (o + 85)) hx hb hts hown hG hR gFx_X1_173_0 sh_o.1 ((congrFun (ov_no rfl) _).trans x_o_tried) dX1_enough_70 ?_
            refine lv_aload_n hx hb dX1_enough_73 rfl (lv_at hl 0 rfl) ?_
            refine g_getr (b := (o + 85)) hx hb hts hown hG hR gFx_X1_173_0 sh_o.1 ((congrFun (ov_no rfl) _).trans x_o_tried) dX1_enough_74 ?_
            refine lv_iload_n hx hb dX1_enough_77 rfl (lv_at hl 1 rfl) ?_
            obtain ⟨rr15, hrr15, hf⟩ := bind_s hf
            refine g0_cV (rm := (5, 114)) (As := [.int p1]) (rest := [.ref (o + 85)]) ⟨hx, hb, hml, hown, hts⟩ hG hR hS (m12_aimed l G K (ov I [(905, (o + 85), w8_i_o85_lost)]) J (ov X [(904, (o + 85), (some y))]) (ova A [((o + 86), w8_a_o85_fuel), ((o + 87), w8_a_o85_wet), ((o + 88), w8_a_o85_heat), ((o + 89), w8_a_o85_burns), ((y + 2), a_y_fuel), ((y + 3), a_y_burns)]) B Q (o + 85) y (Sh.ov rfl sh_o85) (Sh.ov rfl sh_y) (ov_get 0 rfl rfl) p1 i_y_columns i_y_rows i_y_wind w8_a_o85_fuel w8_a_o85_heat w8_a_o85_burns ((congrFun (ov_no rfl) _).trans e_i_y_columns) ((congrFun (ov_no rfl) _).trans e_i_y_rows) ((congrFun (ov_no rfl) _).trans e_i_y_wind) (ova_get 0 hN_A rfl) (ova_get 2 hN_A rfl) (ova_get 3 hN_A rfl) rr15 hrr15) (cwV 1 hts gi_X1_454 rfl rfl rfl hd_X12_aimed ⟨Nat.le_of_ble_eq_true rfl, Nat.le_of_ble_eq_true rfl⟩) sh_o85.1 rfl rfl hl.1 (Nat.le_of_ble_eq_true rfl) dX1_enough_78 ⟨Nat.le_refl _, Nat.le_refl _⟩ rfl (fun H locs hR hS => ?_)
            have hR : RS G K (ov I [(905, (o + 85), w8_i_o85_lost)]) J (ov X [(904, (o + 85), (some y))]) (ova A [((o + 86), w8_a_o85_fuel), ((o + 87), w8_a_o85_wet), ((o + 88), rr15.2), ((o + 89), w8_a_o85_burns), ((y + 2), a_y_fuel), ((y + 3), a_y_burns)]) B Q H := hR.to rfl rfl rfl (ova_merge (l := [((o + 86), w8_a_o85_fuel), ((o + 87), w8_a_o85_wet), ((o + 88), w8_a_o85_heat), ((o + 89), w8_a_o85_burns), ((y + 2), a_y_fuel), ((y + 3), a_y_burns)]) hN_A [0, 2, 3] [((o + 86), w8_a_o85_fuel), ((o + 88), rr15.2), ((o + 89), w8_a_o85_burns)] rfl rfl) rfl rfl
            refine lv_iload_n hx hb dX1_enough_81 rfl (lv_at hl 3 rfl) ?_
            obtain ⟨rr16, hrr16, hf⟩ := bind_s hf
            refine g0_cVv (rm := (4, 91)) (As := [.int rr15.1, .int w5_3]) (rest := []) ⟨hx, hb, hml, hown, hts⟩ hG hR hS (m12_minute l G K (ov I [(905, (o + 85), w8_i_o85_lost)]) J (ov X [(904, (o + 85), (some y))]) (ova A [((o + 86), w8_a_o85_fuel), ((o + 87), w8_a_o85_wet), ((o + 88), rr15.2), ((o + 89), w8_a_o85_burns), ((y + 2), a_y_fuel), ((y + 3), a_y_burns)]) B Q (o + 85) y (Sh.ov rfl sh_o85) (Sh.ov rfl sh_y) (ov_get 0 rfl rfl) rr15.1 w5_3 i_y_columns i_y_rows i_y_wind w8_i_o85_lost w8_a_o85_fuel w8_a_o85_wet rr15.2 w8_a_o85_burns ((congrFun (ov_no rfl) _).trans e_i_y_columns) ((congrFun (ov_no rfl) _).trans e_i_y_rows) ((congrFun (ov_no rfl) _).trans e_i_y_wind) (ov_get 0 rfl rfl) (ova_get 0 hN_A rfl) (ova_get 1 hN_A rfl) (ova_get 2 hN_A rfl) (ova_get 3 hN_A rfl) rr16 hrr16) (cwV 2 hts gi_X1_457 rfl rfl rfl hd_X12_minute ⟨Nat.le_of_ble_eq_true rfl, Nat.le_of_ble_eq_true rfl⟩) sh_o85.1 rfl rfl hl.1 (Nat.le_of_ble_eq_true rfl) dX1_enough_82 ⟨Nat.le_refl _, Nat.le_refl _⟩ rfl (fun H locs hR hS => ?_)
            have hR : RS G K (ov I [(905, (o + 85), rr16.1)]) J (ov X [(904, (o + 85), (some y))]) (ova A [((o + 86), rr16.2.1), ((o + 87), rr16.2.2.1), ((o + 88), rr16.2.2.2.1), ((o + 89), rr16.2.2.2.2), ((y + 2), a_y_fuel), ((y + 3), a_y_burns)]) B Q H := hR.to (ov_merge (l := [(905, (o + 85), w8_i_o85_lost)]) rfl [0] [(905, (o + 85), rr16.1)] rfl rfl) rfl rfl (ova_merge (l := [((o + 86), w8_a_o85_fuel), ((o + 87), w8_a_o85_wet), ((o + 88), rr15.2), ((o + 89), w8_a_o85_burns), ((y + 2), a_y_fuel), ((y + 3), a_y_burns)]) hN_A [0, 1, 2, 3] [((o + 86), rr16.2.1), ((o + 87), rr16.2.2.1), ((o + 88), rr16.2.2.2.1), ((o + 89), rr16.2.2.2.2)] rfl rfl) rfl rfl
            obtain ⟨v17, ev17, hf⟩ := lt_some hf
            refine lv_iinc (k := 4) (v := v17) (lv' := [(4, .int v17), (0, .ref o), (1, .int p1), (2, .int p2), (3, .int w5_3)]) hx hb dX1_enough_85 hl rfl (by rw [ev17]; rfl) (by decide) rfl (fun ls hl => ?_)
            refine lv_goto (tgt := 53) hx hb dX1_enough_88 (by decide) ?_
            obtain rfl := some_i hf
            exact hk8 _ _ _ hR hS (lv_sub hl [1, 2, 3, 4, 0] rfl)
    · have hf := ite_t c4 hf
      refine lv_bipush (v := -2) hx hb dX1_enough_24 lb_m2 ?_
      obtain rfl := some_i hf
      exact hend _ _ _ _ dX1_enough_26 hR hS
noncomputable def f1_fireAt (p1 : Int32) (p2 : Int32) (p3 : Int32) (i_hasFire : Int32) (i_y_columns : Int32) (i_y_rows : Int32) (a_o80_fuel : Nat → Int32) (a_o80_wet : Nat → Int32) (a_o80_burns : Nat → Int32) : Option (Int32) :=
  if i_hasFire = 0 then
    some (-1 : Int32)
  else
    (f4_isCell p1 p2 i_y_columns i_y_rows).bind fun rr2 =>
    if rr2 = 0 then
      some (-1 : Int32)
    else
      lt ((8 : Int32) * p2) fun v4 =>
      lt (v4 + p1) fun v5 =>
      if p3 = 0 then
        gd (inb v5 64) <|
        lt (a_o80_fuel v5.toNatClampNeg) fun v15 =>
        some v15
      else
        if p3 = (1 : Int32) then
          gd (inb v5 64) <|
          lt (a_o80_burns v5.toNatClampNeg) fun v12 =>
          if v12 = 0 then
            some (0 : Int32)
          else
            some (1 : Int32)
        else
          if p3 = (2 : Int32) then
            gd (inb v5 64) <|
            lt (a_o80_wet v5.toNatClampNeg) fun v10 =>
            some v10
          else
            some (-1 : Int32)
set_option maxHeartbeats 4000000 in
theorem m1_fireAt (l : Launch) (G : gG) (K : gK) (I : gI) (J : gJ) (X : gX) (A : gI) (B : gJ) (Q : gX) (o : Nat) (y : Nat) (sh_o : Sh K X o 0 rows0) (sh_y : Sh K X y 3 rows3) (sh_o80 : Sh K X (o + 80) 9 rows9) (x_o80_yard : X 904 (o + 80) = some y) (x_o_barn : X 35 o = some (o + 80)) (p1 : Int32) (p2 : Int32) (p3 : Int32) (i_hasFire : Int32) (i_y_columns : Int32) (i_y_rows : Int32) (a_o80_fuel : Nat → Int32) (a_o80_wet : Nat → Int32) (a_o80_burns : Nat → Int32) (e_i_hasFire : I 38 o = i_hasFire) (e_i_y_columns : I 304 y = i_y_columns) (e_i_y_rows : I 305 y = i_y_rows) (e_a_o80_fuel : A (o + 81) = a_o80_fuel) (e_a_o80_wet : A (o + 82) = a_o80_wet) (e_a_o80_burns : A (o + 84) = a_o80_burns) (out : Int32) (hf : f1_fireAt p1 p2 p3 i_hasFire i_y_columns i_y_rows a_o80_fuel a_o80_wet a_o80_burns = some out) : GMet l yX1_fireAt cX1_fireAt 5 (some .int) (2) (44) G [.ref o, .int p1, .int p2, .int p3] K I J X A B Q (some (.int out)) K I J X A B Q 0 0 := by
  refine GMet.of (y := yX1_fireAt) rfl (Nat.le_of_ble_eq_true rfl) rfl ?_
  intro p e s m below meth c ls hx hb hr hml hlocks hts hown hname hG hR hl
  have hown : s.vm.findClass RX1 = some m.cls := hown
  have k_a_o80_fuel : K (o + 81) = some (.inr (0, 64)) := (sh_o80.2 0 _ rfl).1
  have k_a_o80_wet : K (o + 82) = some (.inr (0, 64)) := (sh_o80.2 1 _ rfl).1
  have k_a_o80_burns : K (o + 84) = some (.inr (1, 64)) := (sh_o80.2 3 _ rfl).1
  have hR : RS G K I J X A B Q s.heap := hR.to rfl rfl rfl rfl rfl rfl
  have hS : va_S (gA G) s.heap s.heap [] := va_S.rf
  have hend : ∀ (pc : Nat) (H : Heap) (locs : List Loc) (ls : Array Slot), decode cX1_fireAt pc = .ok (.ireturn, 1) → RS G K I J X A B Q H → va_S (gA G) s.heap H locs → W p l e ({ frames := 2, cells := 0, slots := 0, locals := 44 } : Room) s m ([.ref o, .int p1, .int p2, .int p3] : List Value).toArray below meth c H locs 0 0 (MQ below (gQ G (some (.int out)) K I J X A B Q) ([.ref o, .int p1, .int p2, .int p3] : List Value).toArray s 0 0 (gA G)) (F0 m pc ls [.int out]) := fun pc H locs ls hd hR hS => g_iret hx hb hr hlocks hG hR hS rfl hd
  generalize MQ below (gQ G (some (.int out)) K I J X A B Q) ([.ref o, .int p1, .int p2, .int p3] : List Value).toArray s 0 0 (gA G) = Z at hend ⊢
  generalize ([.ref o, .int p1, .int p2, .int p3] : List Value).toArray = args at hts hend ⊢
  unfold f1_fireAt at hf
  refine lv_aload_n hx hb dX1_fireAt_0 rfl (lv_at hl 0 rfl) ?_
  refine n_geti (v := i_hasFire) hx hb hts hown hG hR gFi_X1_442_0 sh_o.1 e_i_hasFire dX1_fireAt_1 ?_
  refine lv_if_eq (tgt := 22) hx hb dX1_fireAt_4 (by decide) (fun c1 => ?_) (fun c1 => ?_)
  · have hf := ite_t c1 hf
    refine lv_iconst (v := -1) hx hb dX1_fireAt_22 li_m1 ?_
    obtain rfl := some_i hf
    exact hend _ _ _ _ dX1_fireAt_23 hR hS
  · have hf := ite_f c1 hf
    refine lv_aload_n hx hb dX1_fireAt_7 rfl (lv_at hl 0 rfl) ?_
    refine g_getr (b := (o + 80)) hx hb hts hown hG hR gFx_X1_169_0 sh_o.1 x_o_barn dX1_fireAt_8 ?_
    refine g_getr (b := y) hx hb hts hown hG hR gFx_X1_461_9 sh_o80.1 x_o80_yard dX1_fireAt_11 ?_
    refine lv_iload_n hx hb dX1_fireAt_14 rfl (lv_at hl 1 rfl) ?_
    refine lv_iload_n hx hb dX1_fireAt_15 rfl (lv_at hl 2 rfl) ?_
    obtain ⟨rr2, hrr2, hf⟩ := bind_s hf
    refine g0_cV (rm := (1, 22)) (As := [.int p1, .int p2]) (rest := []) ⟨hx, hb, hml, hown, hts⟩ hG hR hS (m4_isCell l G K I J X A B Q y sh_y p1 p2 i_y_columns i_y_rows e_i_y_columns e_i_y_rows rr2 hrr2) (cwV 2 hts gi_X1_298 rfl rfl rfl hd_X4_isCell ⟨Nat.le_of_ble_eq_true rfl, Nat.le_of_ble_eq_true rfl⟩) sh_y.1 rfl rfl hl.1 (Nat.le_of_ble_eq_true rfl) dX1_fireAt_16 ⟨Nat.le_refl _, Nat.le_refl _⟩ rfl (fun H locs hR hS => ?_)
    refine lv_if_ne (tgt := 24) hx hb dX1_fireAt_19 (by decide) (fun c3 => ?_) (fun c3 => ?_)
    · have hf := ite_f c3 hf
      refine lv_bipush (v := 8) hx hb dX1_fireAt_24 lb_8 ?_
      refine lv_iload_n hx hb dX1_fireAt_26 rfl (lv_at hl 2 rfl) ?_
      obtain ⟨v4, ev4, hf⟩ := lt_some hf
      refine n_imul hx hb ev4 dX1_fireAt_27 ?_
      refine lv_iload_n hx hb dX1_fireAt_28 rfl (lv_at hl 1 rfl) ?_
      obtain ⟨v5, ev5, hf⟩ := lt_some hf
      refine n_iadd hx hb ev5 dX1_fireAt_29 ?_
      refine lv_istore (lv' := [(4, .int v5), (0, .ref o), (1, .int p1), (2, .int p2), (3, .int p3)]) hx hb dX1_fireAt_30 hl (by decide) rfl (fun ls hl => ?_)
      refine lv_iload_n hx hb dX1_fireAt_32 rfl (lv_at hl 4 rfl) ?_
      refine lv_if_ne (tgt := 49) hx hb dX1_fireAt_33 (by decide) (fun c6 => ?_) (fun c6 => ?_)
      · have hf := ite_f c6 hf
        refine lv_iload_n hx hb dX1_fireAt_49 rfl (lv_at hl 4 rfl) ?_
        refine lv_iconst (v := 1) hx hb dX1_fireAt_50 li_1 ?_
        refine lv_icmp_ne (tgt := 75) hx hb dX1_fireAt_51 (by decide) (fun c7 => ?_) (fun c7 => ?_)
        · have hf := ite_f c7 hf
          refine lv_iload_n hx hb dX1_fireAt_75 rfl (lv_at hl 4 rfl) ?_
          refine lv_iconst (v := 2) hx hb dX1_fireAt_76 li_2 ?_
          refine lv_icmp_ne (tgt := 93) hx hb dX1_fireAt_77 (by decide) (fun c8 => ?_) (fun c8 => ?_)
          · have hf := ite_f c8 hf
            refine lv_iconst (v := -1) hx hb dX1_fireAt_93 li_m1 ?_
            obtain rfl := some_i hf
            exact hend _ _ _ _ dX1_fireAt_94 hR hS
          · have hf := ite_t c8 hf
            refine lv_aload_n hx hb dX1_fireAt_80 rfl (lv_at hl 1 rfl) ?_
            refine g_getr (b := (o + 80)) hx hb hts hown hG hR gFx_X1_169_0 sh_o.1 x_o_barn dX1_fireAt_81 ?_
            refine g_getr (b := (o + 82)) hx hb hts hown hG hR gFx_X1_464_9 sh_o80.1 ((sh_o80.2 1 _ rfl).2) dX1_fireAt_84 ?_
            refine lv_iload hx hb dX1_fireAt_87 (lv_at hl 0 rfl) ?_
            obtain ⟨c9, hf⟩ := gd_some hf
            obtain ⟨v10, ev10, hf⟩ := lt_some hf
            refine n_iald (x := a_o80_wet) hx hb hG hR k_a_o80_wet c9 e_a_o80_wet ev10 dX1_fireAt_89 ?_
            refine lv_goto (tgt := 94) hx hb dX1_fireAt_90 (by decide) ?_
            obtain rfl := some_i hf
            exact hend _ _ _ _ dX1_fireAt_94 hR hS
        · have hf := ite_t c7 hf
          refine lv_aload_n hx hb dX1_fireAt_54 rfl (lv_at hl 1 rfl) ?_
          refine g_getr (b := (o + 80)) hx hb hts hown hG hR gFx_X1_169_0 sh_o.1 x_o_barn dX1_fireAt_55 ?_
          refine g_getr (b := (o + 84)) hx hb hts hown hG hR gFx_X1_463_9 sh_o80.1 ((sh_o80.2 3 _ rfl).2) dX1_fireAt_58 ?_
          refine lv_iload hx hb dX1_fireAt_61 (lv_at hl 0 rfl) ?_
          obtain ⟨c11, hf⟩ := gd_some hf
          obtain ⟨v12, ev12, hf⟩ := lt_some hf
          refine n_zald (x := a_o80_burns) hx hb hG hR k_a_o80_burns c11 e_a_o80_burns ev12 dX1_fireAt_63 ?_
          refine lv_if_eq (tgt := 71) hx hb dX1_fireAt_64 (by decide) (fun c13 => ?_) (fun c13 => ?_)
          · have hf := ite_t c13 hf
            refine lv_iconst (v := 0) hx hb dX1_fireAt_71 li_0 ?_
            refine lv_goto (tgt := 94) hx hb dX1_fireAt_72 (by decide) ?_
            obtain rfl := some_i hf
            exact hend _ _ _ _ dX1_fireAt_94 hR hS
          · have hf := ite_f c13 hf
            refine lv_iconst (v := 1) hx hb dX1_fireAt_67 li_1 ?_
            refine lv_goto (tgt := 94) hx hb dX1_fireAt_68 (by decide) ?_
            obtain rfl := some_i hf
            exact hend _ _ _ _ dX1_fireAt_94 hR hS
      · have hf := ite_t c6 hf
        refine lv_aload_n hx hb dX1_fireAt_36 rfl (lv_at hl 1 rfl) ?_
        refine g_getr (b := (o + 80)) hx hb hts hown hG hR gFx_X1_169_0 sh_o.1 x_o_barn dX1_fireAt_37 ?_
        refine g_getr (b := (o + 81)) hx hb hts hown hG hR gFx_X1_462_9 sh_o80.1 ((sh_o80.2 0 _ rfl).2) dX1_fireAt_40 ?_
        refine lv_iload hx hb dX1_fireAt_43 (lv_at hl 0 rfl) ?_
        obtain ⟨c14, hf⟩ := gd_some hf
        obtain ⟨v15, ev15, hf⟩ := lt_some hf
        refine n_iald (x := a_o80_fuel) hx hb hG hR k_a_o80_fuel c14 e_a_o80_fuel ev15 dX1_fireAt_45 ?_
        refine lv_goto (tgt := 94) hx hb dX1_fireAt_46 (by decide) ?_
        obtain rfl := some_i hf
        exact hend _ _ _ _ dX1_fireAt_94 hR hS
    · have hf := ite_t c3 hf
      refine lv_iconst (v := -1) hx hb dX1_fireAt_22 li_m1 ?_
      obtain rfl := some_i hf
      exact hend _ _ _ _ dX1_fireAt_23 hR hS
