/-! the walks of PailRow (printed by tools) 1 -/
set_option maxRecDepth 100000
noncomputable def f10_time (p1 : Int32) (i_y_way : Int32) (i_y_draw : Int32) (i_y_thrown : Int32) (i_many : Int32) (a_men : Nat → Int32) (q_y_men : Nat → Option Nat) (mi_hand : Nat → Int32) : Option (Int32) :=
  lt (i_many - (1 : Int32)) fun v1 =>
  (f1_up i_y_way v1).bind fun rr2 =>
  gd (¬ (4 : Int32) = 0) <|
  lt (rr2 / (4 : Int32)) fun v3 =>
  (f9_manR p1 a_men q_y_men).bind fun rr5 =>
  (rr5).bind fun m6 =>
  lt (mi_hand m6) fun v7 =>
  if p1 = 0 then
    lt (i_y_draw + v3) fun v13 =>
    lt (v7 + v13) fun v14 =>
    some v14
  else
    lt (i_many - (1 : Int32)) fun v9 =>
    if p1 = v9 then
      lt (v7 + i_y_thrown) fun v12 =>
      some v12
    else
      lt (v7 + v3) fun v11 =>
      some v11
set_option maxHeartbeats 4000000 in
theorem m10_time (l : Launch) (G : gG) (K : gK) (I : gI) (J : gJ) (X : gX) (A : gI) (B : gJ) (Q : gX) (o : Nat) (y : Nat) (sh_o : Sh K X o 7 rows7) (sh_y : Sh K X y 3 rows3) (x_o_yard : X 701 o = some y) (p1 : Int32) (i_y_way : Int32) (i_y_draw : Int32) (i_y_thrown : Int32) (i_many : Int32) (a_men : Nat → Int32) (q_y_men : Nat → Option Nat) (mi_hand : Nat → Int32) (e_i_y_way : I 306 y = i_y_way) (e_i_y_draw : I 309 y = i_y_draw) (e_i_y_thrown : I 313 y = i_y_thrown) (e_i_many : I 702 o = i_many) (e_a_men : A (o + 1) = a_men) (e_q_y_men : Q (y + 1) = q_y_men) (e_mi_hand : I 1201 = mi_hand) (hman : ∀ (j m : Nat), q_y_men j = some m → K m = some (.inl 12)) (out : Int32) (hf : f10_time p1 i_y_way i_y_draw i_y_thrown i_many a_men q_y_men mi_hand = some out) : GMet l yX10_time cX10_time 3 (some .int) (1) (21) G [.ref o, .int p1] K I J X A B Q (some (.int out)) K I J X A B Q 0 0 := by
  refine GMet.of (y := yX10_time) rfl (Nat.le_of_ble_eq_true rfl) rfl ?_
  intro p e s m below meth c ls hx hb hr hml hlocks hts hown hname hG hR hl
  have hown : s.vm.findClass RX10 = some m.cls := hown
  have k_a_men : K (o + 1) = some (.inr (0, 12)) := (sh_o.2 0 _ rfl).1
  have k_q_y_men : K (y + 1) = some (.inr (4, 12)) := (sh_y.2 0 _ rfl).1
  have hR : RS G K I J X A B Q s.heap := hR.to rfl rfl rfl rfl rfl rfl
  have hS : va_S (gA G) s.heap s.heap [] := va_S.rf
  have hend : ∀ (pc : Nat) (H : Heap) (locs : List Loc) (ls : Array Slot), decode cX10_time pc = .ok (.ireturn, 1) → RS G K I J X A B Q H → va_S (gA G) s.heap H locs → W p l e ({ frames := 1, cells := 0, slots := 0, locals := 21 } : Room) s m ([.ref o, .int p1] : List Value).toArray below meth c H locs 0 0 (MQ below (gQ G (some (.int out)) K I J X A B Q) ([.ref o, .int p1] : List Value).toArray s 0 0 (gA G)) (F0 m pc ls [.int out]) := fun pc H locs ls hd hR hS => g_iret hx hb hr hlocks hG hR hS rfl hd
  generalize MQ below (gQ G (some (.int out)) K I J X A B Q) ([.ref o, .int p1] : List Value).toArray s 0 0 (gA G) = Z at hend ⊢
  generalize ([.ref o, .int p1] : List Value).toArray = args at hts hend ⊢
  unfold f10_time at hf
  refine lv_aload_n hx hb dX10_time_0 rfl (lv_at hl 0 rfl) ?_
  refine g_getr (b := y) hx hb hts hown hG hR gFx_X10_62_7 sh_o.1 x_o_yard dX10_time_1 ?_
  refine n_geti (v := i_y_way) hx hb hts hown hG hR gFi_X10_66_3 sh_y.1 e_i_y_way dX10_time_4 ?_
  refine lv_aload_n hx hb dX10_time_7 rfl (lv_at hl 0 rfl) ?_
  refine n_geti (v := i_many) hx hb hts hown hG hR gFi_X10_69_7 sh_o.1 e_i_many dX10_time_8 ?_
  refine lv_iconst (v := 1) hx hb dX10_time_11 li_1 ?_
  obtain ⟨v1, ev1, hf⟩ := lt_some hf
  refine n_isub hx hb ev1 dX10_time_12 ?_
  obtain ⟨rr2, hrr2, hf⟩ := bind_s hf
  refine g0_cSN (rm := (0, 0)) (As := [.int i_y_way, .int v1]) (rest := []) ⟨hx, hb, hml, hown, hts⟩ hG hR hS (m1_up l G K I J X A B Q i_y_way v1 rr2 hrr2) ⟨va_cnB 2 hts (lw_meth q1169) rfl rfl rfl (hG.2 _ q1167 rfl) (hts _ q103) hd_X1_up.2 ⟨Nat.le_of_ble_eq_true rfl, Nat.le_of_ble_eq_true rfl⟩, hts _ q1168, trivial⟩ rfl hl.1 (Nat.le_of_ble_eq_true rfl) dX10_time_13 ⟨Nat.le_refl _, Nat.le_refl _⟩ rfl (fun H locs hR hS => ?_)
  refine lv_iconst (v := 4) hx hb dX10_time_16 li_4 ?_
  obtain ⟨c4, hf⟩ := gd_some hf
  obtain ⟨v3, ev3, hf⟩ := lt_some hf
  refine n_idiv hx hb c4 ev3 dX10_time_17 ?_
  refine lv_istore_n (lv' := [(2, .int v3), (0, .ref o), (1, .int p1)]) hx hb dX10_time_18 rfl hl (by decide) rfl (fun ls hl => ?_)
  refine lv_aload_n hx hb dX10_time_19 rfl (lv_at hl 1 rfl) ?_
  refine lv_iload_n hx hb dX10_time_20 rfl (lv_at hl 2 rfl) ?_
  obtain ⟨rr5, hrr5, hf⟩ := bind_s hf
  refine g0_cU (rm := (0, 0)) (As := [.int p1]) (rest := []) ⟨hx, hb, hml, hown, hts⟩ hG hR hS (m9_manR l G K I J X A B Q o y sh_o sh_y x_o_yard p1 a_men q_y_men e_a_men e_q_y_men rr5 hrr5) (va_cwU (x := ⟨"PailRow$Row", "man", "(I)LPailRow$Man;"⟩) (owner := "PailRow$Team") 1 hts gu_X10_76_7 rfl rfl rfl rfl ⟨by decide, by decide, (hd_X9_man.2).2.2⟩ ⟨Nat.le_of_ble_eq_true rfl, Nat.le_of_ble_eq_true rfl⟩) sh_o.1 rfl rfl hl.1 (Nat.le_of_ble_eq_true rfl) dX10_time_21 ⟨Nat.le_refl _, Nat.le_refl _⟩ rfl (fun H locs hR hS => ?_)
  obtain ⟨m6, hm6, hf⟩ := bind_s hf
  obtain ⟨v7, ev7, hf⟩ := lt_some hf
  refine n_some hm6 ?_
  have k_m6 : K m6 = some (.inl 12) := (man_k hman (f9_manR_q hrr5) hm6)
  refine n_geti (v := v7) hx hb hts hown hG hR gFi_X10_80_12 k_m6 ((congrFun e_mi_hand m6).trans ev7.symm) dX10_time_24 ?_
  refine lv_iload_n hx hb dX10_time_27 rfl (lv_at hl 2 rfl) ?_
  refine lv_if_ne (tgt := 43) hx hb dX10_time_28 (by decide) (fun c8 => ?_) (fun c8 => ?_)
  · have hf := ite_f c8 hf
    refine lv_iload_n hx hb dX10_time_43 rfl (lv_at hl 2 rfl) ?_
    refine lv_aload_n hx hb dX10_time_44 rfl (lv_at hl 1 rfl) ?_
    refine n_geti (v := i_many) hx hb hts hown hG hR gFi_X10_69_7 sh_o.1 e_i_many dX10_time_45 ?_
    refine lv_iconst (v := 1) hx hb dX10_time_48 li_1 ?_
    obtain ⟨v9, ev9, hf⟩ := lt_some hf
    refine n_isub hx hb ev9 dX10_time_49 ?_
    refine lv_icmp_ne (tgt := 63) hx hb dX10_time_50 (by decide) (fun c10 => ?_) (fun c10 => ?_)
    · have hf := ite_f c10 hf
      refine lv_iload_n hx hb dX10_time_63 rfl (lv_at hl 0 rfl) ?_
      obtain ⟨v11, ev11, hf⟩ := lt_some hf
      refine n_iadd hx hb ev11 dX10_time_64 ?_
      obtain rfl := some_i hf
      exact hend _ _ _ _ dX10_time_65 hR hS
    · have hf := ite_t c10 hf
      refine lv_aload_n hx hb dX10_time_53 rfl (lv_at hl 1 rfl) ?_
      refine g_getr (b := y) hx hb hts hown hG hR gFx_X10_62_7 sh_o.1 x_o_yard dX10_time_54 ?_
      refine n_geti (v := i_y_thrown) hx hb hts hown hG hR gFi_X10_88_3 sh_y.1 e_i_y_thrown dX10_time_57 ?_
      refine lv_goto (tgt := 64) hx hb dX10_time_60 (by decide) ?_
      obtain ⟨v12, ev12, hf⟩ := lt_some hf
      refine n_iadd hx hb ev12 dX10_time_64 ?_
      obtain rfl := some_i hf
      exact hend _ _ _ _ dX10_time_65 hR hS
  · have hf := ite_t c8 hf
    refine lv_aload_n hx hb dX10_time_31 rfl (lv_at hl 1 rfl) ?_
    refine g_getr (b := y) hx hb hts hown hG hR gFx_X10_62_7 sh_o.1 x_o_yard dX10_time_32 ?_
    refine n_geti (v := i_y_draw) hx hb hts hown hG hR gFi_X10_85_3 sh_y.1 e_i_y_draw dX10_time_35 ?_
    refine lv_iload_n hx hb dX10_time_38 rfl (lv_at hl 0 rfl) ?_
    obtain ⟨v13, ev13, hf⟩ := lt_some hf
    refine n_iadd hx hb ev13 dX10_time_39 ?_
    refine lv_goto (tgt := 64) hx hb dX10_time_40 (by decide) ?_
    obtain ⟨v14, ev14, hf⟩ := lt_some hf
    refine n_iadd hx hb ev14 dX10_time_64 ?_
    obtain rfl := some_i hf
    exact hend _ _ _ _ dX10_time_65 hR hS
noncomputable def f10_period_e1_0 (x1_0 : Int32) : Option (Int32) :=
  some x1_0

noncomputable def f10_period_s1 (i_y_way : Int32) (i_y_draw : Int32) (i_y_thrown : Int32) (i_many : Int32) (a_men : Nat → Int32) (q_y_men : Nat → Option Nat) (mi_hand : Nat → Int32) (w1_1 : Int32) (w1_2 : Int32) : Option ((Int32 × Int32) ⊕ (Int32)) :=
  if i_many ≤ w1_2 then
    some (.inr w1_1)
  else
    (f10_time w1_2 i_y_way i_y_draw i_y_thrown i_many a_men q_y_men mi_hand).bind fun rr3 =>
    lt (if w1_1 < rr3 then rr3 else w1_1) fun v4 =>
    lt (w1_2 + (1 : Int32)) fun v5 =>
    some (.inl (v4, v5))

noncomputable def f10_period (i_y_way : Int32) (i_y_draw : Int32) (i_y_thrown : Int32) (i_many : Int32) (a_men : Nat → Int32) (q_y_men : Nat → Option Nat) (mi_hand : Nat → Int32) : Option (Int32) :=
  (whl (fun (s1 : Int32 × Int32) => f10_period_s1 i_y_way i_y_draw i_y_thrown i_many a_men q_y_men mi_hand s1.1 s1.2) FU ((0 : Int32), (0 : Int32))).bind fun rl1 =>
  f10_period_e1_0 rl1
set_option maxHeartbeats 4000000 in
theorem m10_period (l : Launch) (G : gG) (K : gK) (I : gI) (J : gJ) (X : gX) (A : gI) (B : gJ) (Q : gX) (o : Nat) (y : Nat) (sh_o : Sh K X o 7 rows7) (sh_y : Sh K X y 3 rows3) (x_o_yard : X 701 o = some y)  (i_y_way : Int32) (i_y_draw : Int32) (i_y_thrown : Int32) (i_many : Int32) (a_men : Nat → Int32) (q_y_men : Nat → Option Nat) (mi_hand : Nat → Int32) (e_i_y_way : I 306 y = i_y_way) (e_i_y_draw : I 309 y = i_y_draw) (e_i_y_thrown : I 313 y = i_y_thrown) (e_i_many : I 702 o = i_many) (e_a_men : A (o + 1) = a_men) (e_q_y_men : Q (y + 1) = q_y_men) (e_mi_hand : I 1201 = mi_hand) (hman : ∀ (j m : Nat), q_y_men j = some m → K m = some (.inl 12)) (out : Int32) (hf : f10_period i_y_way i_y_draw i_y_thrown i_many a_men q_y_men mi_hand = some out) : GMet l yX10_period cX10_period 3 (some .int) (2) (43) G [.ref o] K I J X A B Q (some (.int out)) K I J X A B Q 0 0 := by
  refine GMet.of (y := yX10_period) rfl (Nat.le_of_ble_eq_true rfl) rfl ?_
  intro p e s m below meth c ls hx hb hr hml hlocks hts hown hname hG hR hl
  have hown : s.vm.findClass RX10 = some m.cls := hown
  have k_a_men : K (o + 1) = some (.inr (0, 12)) := (sh_o.2 0 _ rfl).1
  have k_q_y_men : K (y + 1) = some (.inr (4, 12)) := (sh_y.2 0 _ rfl).1
  have hR : RS G K I J X A B Q s.heap := hR.to rfl rfl rfl rfl rfl rfl
  have hS : va_S (gA G) s.heap s.heap [] := va_S.rf
  have hend : ∀ (pc : Nat) (H : Heap) (locs : List Loc) (ls : Array Slot), decode cX10_period pc = .ok (.ireturn, 1) → RS G K I J X A B Q H → va_S (gA G) s.heap H locs → W p l e ({ frames := 2, cells := 0, slots := 0, locals := 43 } : Room) s m ([.ref o] : List Value).toArray below meth c H locs 0 0 (MQ below (gQ G (some (.int out)) K I J X A B Q) ([.ref o] : List Value).toArray s 0 0 (gA G)) (F0 m pc ls [.int out]) := fun pc H locs ls hd hR hS => g_iret hx hb hr hlocks hG hR hS rfl hd
  generalize MQ below (gQ G (some (.int out)) K I J X A B Q) ([.ref o] : List Value).toArray s 0 0 (gA G) = Z at hend ⊢
  generalize ([.ref o] : List Value).toArray = args at hts hend ⊢
  unfold f10_period at hf
  refine lv_iconst (v := 0) hx hb dX10_period_0 li_0 ?_
  refine lv_istore_n (lv' := [(1, .int (0 : Int32)), (0, .ref o)]) hx hb dX10_period_1 rfl hl (by decide) rfl (fun ls hl => ?_)
  refine lv_iconst (v := 0) hx hb dX10_period_2 li_0 ?_
  refine lv_istore_n (lv' := [(2, .int (0 : Int32)), (1, .int (0 : Int32)), (0, .ref o)]) hx hb dX10_period_3 rfl hl (by decide) rfl (fun ls hl => ?_)
  obtain ⟨rl1, hw1, hfo1⟩ := bind_s hf
  have hx1_0 : ∀ (x1_0 : Int32), f10_period_e1_0 x1_0 = some out → ∀ (H : Heap) (locs : List Loc) (ls : Array Slot), RS G K I J X A B Q H → va_S (gA G) s.heap H locs → lv_has ls 3 [(0, .ref o), (1, .int x1_0)] → W p l e ({ frames := 2, cells := 0, slots := 0, locals := 43 } : Room) s m args below meth c H locs 0 0 Z (F0 m 28 ls []) := by
    intro x1_0 hf H locs ls hR hS hl
    unfold f10_period_e1_0 at hf
    refine lv_iload_n hx hb dX10_period_28 rfl (lv_at hl 1 rfl) ?_
    obtain rfl := some_i hf
    exact hend _ _ _ _ dX10_period_29 hR hS
  refine whl_walk (P := fun (s1 : Int32 × Int32) => ∀ (H : Heap) (locs : List Loc) (ls : Array Slot), RS G K I J X A B Q H → va_S (gA G) s.heap H locs → lv_has ls 3 [(0, .ref o), (1, .int s1.1), (2, .int s1.2)] → W p l e ({ frames := 2, cells := 0, slots := 0, locals := 43 } : Room) s m args below meth c H locs 0 0 Z (F0 m 4 ls [])) (r := rl1) ?_ FU _ hw1 _ _ _ hR hS (lv_sub hl [2, 1, 0] rfl)
  clear hR hS hl hf
  intro s1 o1 hf hk1 H locs ls hR hS hl
  obtain ⟨w1_1, w1_2⟩ := s1
  have hf : f10_period_s1 i_y_way i_y_draw i_y_thrown i_many a_men q_y_men mi_hand w1_1 w1_2 = some o1 := hf
  have hR : RS G K I J X A B Q H := hR
  have hl : lv_has ls 3 [(0, .ref o), (1, .int w1_1), (2, .int w1_2)] := hl
  unfold f10_period_s1 at hf
  refine lv_iload_n hx hb dX10_period_4 rfl (lv_at hl 2 rfl) ?_
  refine lv_aload_n hx hb dX10_period_5 rfl (lv_at hl 0 rfl) ?_
  refine n_geti (v := i_many) hx hb hts hown hG hR gFi_X10_69_7 sh_o.1 e_i_many dX10_period_6 ?_
  refine lv_icmp_ge (tgt := 28) hx hb dX10_period_9 (by decide) (fun c2 => ?_) (fun c2 => ?_)
  · have hf := ite_t c2 hf
    obtain rfl := some_i hf
    replace hk1 : _ = rl1 := hk1
    subst hk1
    exact hx1_0 w1_1 hfo1 _ _ _ hR hS (lv_sub hl [0, 1] rfl)
  · have hf := ite_f c2 hf
    refine lv_iload_n hx hb dX10_period_12 rfl (lv_at hl 1 rfl) ?_
    refine lv_aload_n hx hb dX10_period_13 rfl (lv_at hl 0 rfl) ?_
    refine lv_iload_n hx hb dX10_period_14 rfl (lv_at hl 2 rfl) ?_
    obtain ⟨rr3, hrr3, hf⟩ := bind_s hf
    refine g0_cV (rm := (1, 21)) (As := [.int w1_2]) (rest := [.int w1_1]) ⟨hx, hb, hml, hown, hts⟩ hG hR hS (m10_time l G K I J X A B Q o y sh_o sh_y x_o_yard w1_2 i_y_way i_y_draw i_y_thrown i_many a_men q_y_men mi_hand e_i_y_way e_i_y_draw e_i_y_thrown e_i_many e_a_men e_q_y_men e_mi_hand hman rr3 hrr3) (cwV 1 hts gi_X10_91 rfl rfl rfl hd_X10_time ⟨Nat.le_of_ble_eq_true rfl, Nat.le_of_ble_eq_true rfl⟩) sh_o.1 rfl rfl hl.1 (Nat.le_of_ble_eq_true rfl) dX10_period_15 ⟨Nat.le_refl _, Nat.le_refl _⟩ rfl (fun H locs hR hS => ?_)
    obtain ⟨v4, ev4, hf⟩ := lt_some hf
    refine n_mmax hx hb (hml.trans hl.1.symm) hown (hts _ q1185) (hts _ q1186) (hts _ q127) (hts _ q1187) (Nat.le_of_ble_eq_true rfl) (Nat.le_of_ble_eq_true rfl) (Nat.le_refl _) (Nat.le_refl _) ev4 dX10_period_18 ?_
    refine lv_istore_n (lv' := [(1, .int v4), (0, .ref o), (2, .int w1_2)]) hx hb dX10_period_21 rfl hl (by decide) rfl (fun ls hl => ?_)
    obtain ⟨v5, ev5, hf⟩ := lt_some hf
    refine lv_iinc (k := 2) (v := v5) (lv' := [(2, .int v5), (1, .int v4), (0, .ref o)]) hx hb dX10_period_22 hl rfl (by rw [ev5]; rfl) (by decide) rfl (fun ls hl => ?_)
    refine lv_goto (tgt := 4) hx hb dX10_period_25 (by decide) ?_
    obtain rfl := some_i hf
    exact hk1 _ _ _ hR hS (lv_sub hl [2, 1, 0] rfl)
noncomputable def f10_ends (p1 : Int32) (i_y_spill : Int32) (i_y_back : Int32) (i_many : Int32) (i_thrown : Int32) (i_tick : Int32) (i_backFirst : Int32) (i_backMany : Int32) (i_spilt : Int32) (a_done : Nat → Int32) (a_litres : Nat → Int32) (a_stands : Nat → Int32) (a_first : Nat → Int32) (a_backs : Nat → Int32) (g_pails : Nat → Nat → Int32) : Option (Int32 × Int32 × Int32 × (Nat → Int32) × (Nat → Int32) × (Nat → Int32) × (Nat → Nat → Int32)) :=
  gd (inb p1 12) <|
  lt (a_done p1.toNatClampNeg) fun v2 =>
  lt (v2 + (1 : Int32)) fun v3 =>
  gd (inb p1 12) <|
  lt (upd a_done p1.toNatClampNeg v3) fun u5 =>
  lt (i_many - (1 : Int32)) fun v6 =>
  if p1 = v6 then
    gd (inb p1 12) <|
    lt (a_litres p1.toNatClampNeg) fun v38 =>
    lt (i_thrown + v38) fun v39 =>
    lt (i_backFirst + i_backMany) fun v40 =>
    gd (¬ (30 : Int32) = 0) <|
    lt (v40 - v40 / (30 : Int32) * (30 : Int32)) fun v41 =>
    lt (i_tick + i_y_back) fun v43 =>
    gd (inb v41 30) <|
    lt (upd a_backs v41.toNatClampNeg v43) fun u45 =>
    lt (i_backMany + (1 : Int32)) fun v46 =>
    some (v39, v46, i_spilt, u5, a_stands, u45, g_pails)
  else
    gd (inb p1 12) <|
    lt (a_litres p1.toNatClampNeg) fun v9 =>
    lt (v9 * i_y_spill) fun v10 =>
    gd (¬ (100 : Int32) = 0) <|
    lt (v10 / (100 : Int32)) fun v11 =>
    lt (i_spilt + v11) fun v13 =>
    lt (p1 + (1 : Int32)) fun v14 =>
    gd (inb v14 12) <|
    lt (p1 + (1 : Int32)) fun v17 =>
    gd (inb v17 12) <|
    lt (a_first v17.toNatClampNeg) fun v19 =>
    lt (p1 + (1 : Int32)) fun v20 =>
    gd (inb v20 12) <|
    lt (a_stands v20.toNatClampNeg) fun v22 =>
    lt (v19 + v22) fun v23 =>
    gd (¬ (30 : Int32) = 0) <|
    lt (v23 - v23 / (30 : Int32) * (30 : Int32)) fun v24 =>
    gd (inb p1 12) <|
    lt (a_litres p1.toNatClampNeg) fun v27 =>
    lt (v27 - v11) fun v28 =>
    gd (inb v24 30) <|
    lt (a_up g_pails v14.toNatClampNeg (upd (g_pails v14.toNatClampNeg) v24.toNatClampNeg v28)) fun u30 =>
    lt (p1 + (1 : Int32)) fun v31 =>
    gd (inb v31 12) <|
    lt (a_stands v31.toNatClampNeg) fun v33 =>
    lt (v33 + (1 : Int32)) fun v34 =>
    gd (inb v31 12) <|
    lt (upd a_stands v31.toNatClampNeg v34) fun u36 =>
    some (i_thrown, i_backMany, v13, u5, u36, a_backs, u30)
set_option maxHeartbeats 4000000 in
theorem m10_ends (l : Launch) (G : gG) (K : gK) (I : gI) (J : gJ) (X : gX) (A : gI) (B : gJ) (Q : gX) (o : Nat) (y : Nat) (sh_o : Sh K X o 7 rows7) (sh_y : Sh K X y 3 rows3) (x_o_yard : X 701 o = some y) (shG : ∀ j, j < 12 → K (o + 9 + j) = some (.inr (0, 30)) ∧ Q (o + 8) j = some (o + 9 + j)) (p1 : Int32) (i_y_spill : Int32) (i_y_back : Int32) (i_many : Int32) (i_thrown : Int32) (i_tick : Int32) (i_backFirst : Int32) (i_backMany : Int32) (i_spilt : Int32) (a_done : Nat → Int32) (a_litres : Nat → Int32) (a_stands : Nat → Int32) (a_first : Nat → Int32) (a_backs : Nat → Int32) (g_pails : Nat → Nat → Int32) (e_i_y_spill : I 311 y = i_y_spill) (e_i_y_back : I 312 y = i_y_back) (e_i_many : I 702 o = i_many) (e_i_thrown : I 704 o = i_thrown) (e_i_tick : I 705 o = i_tick) (e_i_backFirst : I 715 o = i_backFirst) (e_i_backMany : I 716 o = i_backMany) (e_i_spilt : I 718 o = i_spilt) (e_a_done : A (o + 2) = a_done) (e_a_litres : A (o + 4) = a_litres) (e_a_stands : A (o + 5) = a_stands) (e_a_first : A (o + 6) = a_first) (e_a_backs : A (o + 21) = a_backs) (e_g_pails : ∀ j, j < 12 → A (o + 9 + j) = g_pails j) (out : Int32 × Int32 × Int32 × (Nat → Int32) × (Nat → Int32) × (Nat → Int32) × (Nat → Nat → Int32)) (hf : f10_ends p1 i_y_spill i_y_back i_many i_thrown i_tick i_backFirst i_backMany i_spilt a_done a_litres a_stands a_first a_backs g_pails = some out) : GMet l yX10_ends cX10_ends 3 none (0) (0) G [.ref o, .int p1] K I J X A B Q none K (ov I [(704, o, out.1), (716, o, out.2.1), (718, o, out.2.2.1)]) J X (ova (ovg A (o + 9) 12 out.2.2.2.2.2.2) [((o + 2), out.2.2.2.1), ((o + 4), a_litres), ((o + 5), out.2.2.2.2.1), ((o + 6), a_first), ((o + 21), out.2.2.2.2.2.1)]) B Q 0 0 := by
  refine GMet.of (y := yX10_ends) rfl (Nat.le_of_ble_eq_true rfl) rfl ?_
  intro p e s m below meth c ls hx hb hr hml hlocks hts hown hname hG hR hl
  have hown : s.vm.findClass RX10 = some m.cls := hown
  have k_a_done : K (o + 2) = some (.inr (0, 12)) := (sh_o.2 1 _ rfl).1
  have k_a_litres : K (o + 4) = some (.inr (0, 12)) := (sh_o.2 3 _ rfl).1
  have k_a_stands : K (o + 5) = some (.inr (0, 12)) := (sh_o.2 4 _ rfl).1
  have k_a_first : K (o + 6) = some (.inr (0, 12)) := (sh_o.2 5 _ rfl).1
  have k_a_backs : K (o + 21) = some (.inr (0, 30)) := (sh_o.2 8 _ rfl).1
  have k_pails : K (o + 8) = some (.inr (9, 12)) := (sh_o.2 7 _ rfl).1
  have hN_A : nda [(o + 2), (o + 4), (o + 5), (o + 6), (o + 21)] := nd_off o [2, 4, 5, 6, 21] rfl
  have hR : RS G K (ov I [(704, o, i_thrown), (716, o, i_backMany), (718, o, i_spilt)]) J X (ova (ovg A (o + 9) 12 g_pails) [((o + 2), a_done), ((o + 4), a_litres), ((o + 5), a_stands), ((o + 6), a_first), ((o + 21), a_backs)]) B Q s.heap := hR.to (Eq.symm (ov_sc e_i_thrown (ov_sc e_i_backMany (ov_sc e_i_spilt rfl)))) rfl rfl (Eq.trans (Eq.symm (ova_sc e_a_done (ova_sc e_a_litres (ova_sc e_a_stands (ova_sc e_a_first (ova_sc e_a_backs rfl)))))) (congrArg (fun z => ova z [((o + 2), a_done), ((o + 4), a_litres), ((o + 5), a_stands), ((o + 6), a_first), ((o + 21), a_backs)]) (Eq.symm (ovg_self e_g_pails)))) rfl rfl
  have hS : va_S (gA G) s.heap s.heap [] := va_S.rf
  have hend : ∀ (pc : Nat) (H : Heap) (locs : List Loc) (ls : Array Slot), decode cX10_ends pc = .ok (.return_, 1) → RS G K (ov I [(704, o, out.1), (716, o, out.2.1), (718, o, out.2.2.1)]) J X (ova (ovg A (o + 9) 12 out.2.2.2.2.2.2) [((o + 2), out.2.2.2.1), ((o + 4), a_litres), ((o + 5), out.2.2.2.2.1), ((o + 6), a_first), ((o + 21), out.2.2.2.2.2.1)]) B Q H → va_S (gA G) s.heap H locs → W p l e ({ frames := 0, cells := 0, slots := 0, locals := 0 } : Room) s m ([.ref o, .int p1] : List Value).toArray below meth c H locs 0 0 (MQ below (gQ G none K (ov I [(704, o, out.1), (716, o, out.2.1), (718, o, out.2.2.1)]) J X (ova (ovg A (o + 9) 12 out.2.2.2.2.2.2) [((o + 2), out.2.2.2.1), ((o + 4), a_litres), ((o + 5), out.2.2.2.2.1), ((o + 6), a_first), ((o + 21), out.2.2.2.2.2.1)]) B Q) ([.ref o, .int p1] : List Value).toArray s 0 0 (gA G)) (F0 m pc ls []) := fun pc H locs ls hd hR hS => g_vret hx hb hr hlocks hG hR hS rfl hd
  generalize MQ below (gQ G none K (ov I [(704, o, out.1), (716, o, out.2.1), (718, o, out.2.2.1)]) J X (ova (ovg A (o + 9) 12 out.2.2.2.2.2.2) [((o + 2), out.2.2.2.1), ((o + 4), a_litres), ((o + 5), out.2.2.2.2.1), ((o + 6), a_first), ((o + 21), out.2.2.2.2.2.1)]) B Q) ([.ref o, .int p1] : List Value).toArray s 0 0 (gA G) = Z at hend ⊢
  generalize ([.ref o, .int p1] : List Value).toArray = args at hts hend ⊢
  unfold f10_ends at hf
  refine lv_aload_n hx hb dX10_ends_0 rfl (lv_at hl 0 rfl) ?_
  refine g_getr (b := (o + 2)) hx hb hts hown hG hR gFx_X10_9_7 sh_o.1 ((sh_o.2 1 _ rfl).2) dX10_ends_1 ?_
  refine lv_iload_n hx hb dX10_ends_4 rfl (lv_at hl 1 rfl) ?_
  refine lv_dup2_11 hx hb dX10_ends_5 rfl rfl ?_
  obtain ⟨c1, hf⟩ := gd_some hf
  obtain ⟨v2, ev2, hf⟩ := lt_some hf
  refine n_iald (x := a_done) hx hb hG hR k_a_done c1 (ova_get 0 hN_A rfl) ev2 dX10_ends_6 ?_
  refine lv_iconst (v := 1) hx hb dX10_ends_7 li_1 ?_
  obtain ⟨v3, ev3, hf⟩ := lt_some hf
  refine n_iadd hx hb ev3 dX10_ends_8 ?_
  obtain ⟨c4, hf⟩ := gd_some hf
  obtain ⟨u5, eu5, hf⟩ := lt_some hf
  refine n_iast (la' := [((o + 2), u5), ((o + 4), a_litres), ((o + 5), a_stands), ((o + 6), a_first), ((o + 21), a_backs)]) hx hb hG hR hS k_a_done c4 hN_A 0 rfl eu5 rfl dX10_ends_9 (fun H locs hR hS => ?_)
  refine lv_iload_n hx hb dX10_ends_10 rfl (lv_at hl 1 rfl) ?_
  refine lv_aload_n hx hb dX10_ends_11 rfl (lv_at hl 0 rfl) ?_
  refine n_geti (v := i_many) hx hb hts hown hG hR gFi_X10_69_7 sh_o.1 ((congrFun (ov_no rfl) _).trans e_i_many) dX10_ends_12 ?_
  refine lv_iconst (v := 1) hx hb dX10_ends_15 li_1 ?_
  obtain ⟨v6, ev6, hf⟩ := lt_some hf
  refine n_isub hx hb ev6 dX10_ends_16 ?_
  refine lv_icmp_ne (tgt := 75) hx hb dX10_ends_17 (by decide) (fun c7 => ?_) (fun c7 => ?_)
  · have hf := ite_f c7 hf
    refine lv_aload_n hx hb dX10_ends_75 rfl (lv_at hl 0 rfl) ?_
    refine g_getr (b := (o + 4)) hx hb hts hown hG hR gFx_X10_18_7 sh_o.1 ((sh_o.2 3 _ rfl).2) dX10_ends_76 ?_
    refine lv_iload_n hx hb dX10_ends_79 rfl (lv_at hl 1 rfl) ?_
    obtain ⟨c8, hf⟩ := gd_some hf
    obtain ⟨v9, ev9, hf⟩ := lt_some hf
    refine n_iald (x := a_litres) hx hb hG hR k_a_litres c8 (ova_get 1 hN_A rfl) ev9 dX10_ends_80 ?_
    refine lv_aload_n hx hb dX10_ends_81 rfl (lv_at hl 0 rfl) ?_
    refine g_getr (b := y) hx hb hts hown hG hR gFx_X10_62_7 sh_o.1 x_o_yard dX10_ends_82 ?_
    refine n_geti (v := i_y_spill) hx hb hts hown hG hR gFi_X10_117_3 sh_y.1 ((congrFun (ov_no rfl) _).trans e_i_y_spill) dX10_ends_85 ?_
    obtain ⟨v10, ev10, hf⟩ := lt_some hf
    refine n_imul hx hb ev10 dX10_ends_88 ?_
    refine lv_bipush (v := 100) hx hb dX10_ends_89 lb_100 ?_
    obtain ⟨c12, hf⟩ := gd_some hf
    obtain ⟨v11, ev11, hf⟩ := lt_some hf
    refine n_idiv hx hb c12 ev11 dX10_ends_91 ?_
    refine lv_istore_n (lv' := [(2, .int v11), (0, .ref o), (1, .int p1)]) hx hb dX10_ends_92 rfl hl (by decide) rfl (fun ls hl => ?_)
    refine lv_aload_n hx hb dX10_ends_93 rfl (lv_at hl 1 rfl) ?_
    refine lv_dup hx hb dX10_ends_94 rfl ?_
    refine n_geti (v := i_spilt) hx hb hts hown hG hR gFi_X10_59_7 sh_o.1 (ov_get 2 rfl rfl) dX10_ends_95 ?_
    refine lv_iload_n hx hb dX10_ends_98 rfl (lv_at hl 0 rfl) ?_
    obtain ⟨v13, ev13, hf⟩ := lt_some hf
    refine n_iadd hx hb ev13 dX10_ends_99 ?_
    refine n_puti (li' := [(704, o, i_thrown), (716, o, i_backMany), (718, o, v13)]) hx hb hts hown hG hR hS gPi_X10_59_7 sh_o.1 2 rfl rfl rfl dX10_ends_100 (fun H locs hR hS => ?_)
    refine lv_aload_n hx hb dX10_ends_103 rfl (lv_at hl 1 rfl) ?_
    refine g_getr (b := (o + 8)) hx hb hts hown hG hR gFx_X10_32_7 sh_o.1 ((sh_o.2 7 _ rfl).2) dX10_ends_104 ?_
    refine lv_iload_n hx hb dX10_ends_107 rfl (lv_at hl 2 rfl) ?_
    refine lv_iconst (v := 1) hx hb dX10_ends_108 li_1 ?_
    obtain ⟨v14, ev14, hf⟩ := lt_some hf
    refine n_iadd hx hb ev14 dX10_ends_109 ?_
    obtain ⟨c15, hf⟩ := gd_some hf
    have hj16 : v14.toNatClampNeg < 12 := inb_lt c15
    refine g_aaldr (b := o + 9 + v14.toNatClampNeg) hx hb hG hR (t := 5) k_pails (by decide) c15 ((shG _ hj16).2) dX10_ends_110 ?_
    refine lv_aload_n hx hb dX10_ends_111 rfl (lv_at hl 1 rfl) ?_
    refine g_getr (b := (o + 6)) hx hb hts hown hG hR gFx_X10_24_7 sh_o.1 ((sh_o.2 5 _ rfl).2) dX10_ends_112 ?_
    refine lv_iload_n hx hb dX10_ends_115 rfl (lv_at hl 2 rfl) ?_
    refine lv_iconst (v := 1) hx hb dX10_ends_116 li_1 ?_
    obtain ⟨v17, ev17, hf⟩ := lt_some hf
    refine n_iadd hx hb ev17 dX10_ends_117 ?_
    obtain ⟨c18, hf⟩ := gd_some hf
    obtain ⟨v19, ev19, hf⟩ := lt_some hf
    refine n_iald (x := a_first) hx hb hG hR k_a_first c18 (ova_get 3 hN_A rfl) ev19 dX10_ends_118 ?_
    refine lv_aload_n hx hb dX10_ends_119 rfl (lv_at hl 1 rfl) ?_
    refine g_getr (b := (o + 5)) hx hb hts hown hG hR gFx_X10_21_7 sh_o.1 ((sh_o.2 4 _ rfl).2) dX10_ends_120 ?_
    refine lv_iload_n hx hb dX10_ends_123 rfl (lv_at hl 2 rfl) ?_
    refine lv_iconst (v := 1) hx hb dX10_ends_124 li_1 ?_
    obtain ⟨v20, ev20, hf⟩ := lt_some hf
    refine n_iadd hx hb ev20 dX10_ends_125 ?_
    obtain ⟨c21, hf⟩ := gd_some hf
    obtain ⟨v22, ev22, hf⟩ := lt_some hf
    refine n_iald (x := a_stands) hx hb hG hR k_a_stands c21 (ova_get 2 hN_A rfl) ev22 dX10_ends_126 ?_
    obtain ⟨v23, ev23, hf⟩ := lt_some hf
    refine n_iadd hx hb ev23 dX10_ends_127 ?_
    refine lv_bipush (v := 30) hx hb dX10_ends_128 lb_30 ?_
    obtain ⟨c25, hf⟩ := gd_some hf
    obtain ⟨v24, ev24, hf⟩ := lt_some hf
    refine n_irem hx hb c25 ev24 dX10_ends_130 ?_
    refine lv_aload_n hx hb dX10_ends_131 rfl (lv_at hl 1 rfl) ?_
    refine g_getr (b := (o + 4)) hx hb hts hown hG hR gFx_X10_18_7 sh_o.1 ((sh_o.2 3 _ rfl).2) dX10_ends_132 ?_
    refine lv_iload_n hx hb dX10_ends_135 rfl (lv_at hl 2 rfl) ?_
    obtain ⟨c26, hf⟩ := gd_some hf
    obtain ⟨v27, ev27, hf⟩ := lt_some hf
    refine n_iald (x := a_litres) hx hb hG hR k_a_litres c26 (ova_get 1 hN_A rfl) ev27 dX10_ends_136 ?_
    refine lv_iload_n hx hb dX10_ends_137 rfl (lv_at hl 0 rfl) ?_
    obtain ⟨v28, ev28, hf⟩ := lt_some hf
    refine n_isub hx hb ev28 dX10_ends_138 ?_
    obtain ⟨c29, hf⟩ := gd_some hf
    obtain ⟨u30, eu30, hf⟩ := lt_some hf
    refine n_gast hx hb hG hR hS ((shG _ hj16).1) hj16 c29 (by show o + 9 + v14.toNatClampNeg ∉ [(o + 2), (o + 4), (o + 5), (o + 6), (o + 21)]; simp only [List.mem_cons, List.not_mem_nil, or_false, not_or]; omega) eu30 dX10_ends_139 (fun H locs hR hS => ?_)
    refine lv_aload_n hx hb dX10_ends_140 rfl (lv_at hl 1 rfl) ?_
    refine g_getr (b := (o + 5)) hx hb hts hown hG hR gFx_X10_21_7 sh_o.1 ((sh_o.2 4 _ rfl).2) dX10_ends_141 ?_
    refine lv_iload_n hx hb dX10_ends_144 rfl (lv_at hl 2 rfl) ?_
    refine lv_iconst (v := 1) hx hb dX10_ends_145 li_1 ?_
    obtain ⟨v31, ev31, hf⟩ := lt_some hf
    refine n_iadd hx hb ev31 dX10_ends_146 ?_
    refine lv_dup2_11 hx hb dX10_ends_147 rfl rfl ?_
    obtain ⟨c32, hf⟩ := gd_some hf
    obtain ⟨v33, ev33, hf⟩ := lt_some hf
    refine n_iald (x := a_stands) hx hb hG hR k_a_stands c32 (ova_get 2 hN_A rfl) ev33 dX10_ends_148 ?_
    refine lv_iconst (v := 1) hx hb dX10_ends_149 li_1 ?_
    obtain ⟨v34, ev34, hf⟩ := lt_some hf
    refine n_iadd hx hb ev34 dX10_ends_150 ?_
    obtain ⟨c35, hf⟩ := gd_some hf
    obtain ⟨u36, eu36, hf⟩ := lt_some hf
    refine n_iast (la' := [((o + 2), u5), ((o + 4), a_litres), ((o + 5), u36), ((o + 6), a_first), ((o + 21), a_backs)]) hx hb hG hR hS k_a_stands c35 hN_A 2 rfl eu36 rfl dX10_ends_151 (fun H locs hR hS => ?_)
    obtain rfl := some_i hf
    exact hend _ _ _ _ dX10_ends_152 hR hS
  · have hf := ite_t c7 hf
    refine lv_aload_n hx hb dX10_ends_20 rfl (lv_at hl 0 rfl) ?_
    refine lv_dup hx hb dX10_ends_21 rfl ?_
    refine n_geti (v := i_thrown) hx hb hts hown hG hR gFi_X10_113_7 sh_o.1 (ov_get 0 rfl rfl) dX10_ends_22 ?_
    refine lv_aload_n hx hb dX10_ends_25 rfl (lv_at hl 0 rfl) ?_
    refine g_getr (b := (o + 4)) hx hb hts hown hG hR gFx_X10_18_7 sh_o.1 ((sh_o.2 3 _ rfl).2) dX10_ends_26 ?_
    refine lv_iload_n hx hb dX10_ends_29 rfl (lv_at hl 1 rfl) ?_
    obtain ⟨c37, hf⟩ := gd_some hf
    obtain ⟨v38, ev38, hf⟩ := lt_some hf
    refine n_iald (x := a_litres) hx hb hG hR k_a_litres c37 (ova_get 1 hN_A rfl) ev38 dX10_ends_30 ?_
    obtain ⟨v39, ev39, hf⟩ := lt_some hf
    refine n_iadd hx hb ev39 dX10_ends_31 ?_
    refine n_puti (li' := [(704, o, v39), (716, o, i_backMany), (718, o, i_spilt)]) hx hb hts hown hG hR hS gPi_X10_113_7 sh_o.1 0 rfl rfl rfl dX10_ends_32 (fun H locs hR hS => ?_)
    refine lv_aload_n hx hb dX10_ends_35 rfl (lv_at hl 0 rfl) ?_
    refine g_getr (b := (o + 21)) hx hb hts hown hG hR gFx_X10_35_7 sh_o.1 ((sh_o.2 8 _ rfl).2) dX10_ends_36 ?_
    refine lv_aload_n hx hb dX10_ends_39 rfl (lv_at hl 0 rfl) ?_
    refine n_geti (v := i_backFirst) hx hb hts hown hG hR gFi_X10_50_7 sh_o.1 ((congrFun (ov_no rfl) _).trans e_i_backFirst) dX10_ends_40 ?_
    refine lv_aload_n hx hb dX10_ends_43 rfl (lv_at hl 0 rfl) ?_
    refine n_geti (v := i_backMany) hx hb hts hown hG hR gFi_X10_53_7 sh_o.1 (ov_get 1 rfl rfl) dX10_ends_44 ?_
    obtain ⟨v40, ev40, hf⟩ := lt_some hf
    refine n_iadd hx hb ev40 dX10_ends_47 ?_
    refine lv_bipush (v := 30) hx hb dX10_ends_48 lb_30 ?_
    obtain ⟨c42, hf⟩ := gd_some hf
    obtain ⟨v41, ev41, hf⟩ := lt_some hf
    refine n_irem hx hb c42 ev41 dX10_ends_50 ?_
    refine lv_aload_n hx hb dX10_ends_51 rfl (lv_at hl 0 rfl) ?_
    refine n_geti (v := i_tick) hx hb hts hown hG hR gFi_X10_100_7 sh_o.1 ((congrFun (ov_no rfl) _).trans e_i_tick) dX10_ends_52 ?_
    refine lv_aload_n hx hb dX10_ends_55 rfl (lv_at hl 0 rfl) ?_
    refine g_getr (b := y) hx hb hts hown hG hR gFx_X10_62_7 sh_o.1 x_o_yard dX10_ends_56 ?_
    refine n_geti (v := i_y_back) hx hb hts hown hG hR gFi_X10_114_3 sh_y.1 ((congrFun (ov_no rfl) _).trans e_i_y_back) dX10_ends_59 ?_
    obtain ⟨v43, ev43, hf⟩ := lt_some hf
    refine n_iadd hx hb ev43 dX10_ends_62 ?_
    obtain ⟨c44, hf⟩ := gd_some hf
    obtain ⟨u45, eu45, hf⟩ := lt_some hf
    refine n_iast (la' := [((o + 2), u5), ((o + 4), a_litres), ((o + 5), a_stands), ((o + 6), a_first), ((o + 21), u45)]) hx hb hG hR hS k_a_backs c44 hN_A 4 rfl eu45 rfl dX10_ends_63 (fun H locs hR hS => ?_)
    refine lv_aload_n hx hb dX10_ends_64 rfl (lv_at hl 0 rfl) ?_
    refine lv_dup hx hb dX10_ends_65 rfl ?_
    refine n_geti (v := i_backMany) hx hb hts hown hG hR gFi_X10_53_7 sh_o.1 (ov_get 1 rfl rfl) dX10_ends_66 ?_
    refine lv_iconst (v := 1) hx hb dX10_ends_69 li_1 ?_
    obtain ⟨v46, ev46, hf⟩ := lt_some hf
    refine n_iadd hx hb ev46 dX10_ends_70 ?_
    refine n_puti (li' := [(704, o, v39), (716, o, v46), (718, o, i_spilt)]) hx hb hts hown hG hR hS gPi_X10_53_7 sh_o.1 1 rfl rfl rfl dX10_ends_71 (fun H locs hR hS => ?_)
    obtain rfl := some_i hf
    exact hend _ _ _ _ dX10_ends_74 hR hS
noncomputable def f10_starts_j35 (p1 : Int32) (i_y_hold : Int32) (i_water : Int32) (i_empties : Int32) (i_drawn : Int32) (a_busy : Nat → Int32) (a_litres : Nat → Int32) (a_stands : Nat → Int32) (a_first : Nat → Int32) (g_pails : Nat → Nat → Int32) (rr1 : Int32) (j35_s0 : Int32) : Option (Int32 × Int32 × Int32 × (Nat → Int32) × (Nat → Int32) × (Nat → Int32) × (Nat → Int32)) :=
  lt (rr1 * j35_s0) fun v8 =>
  gd (inb p1 12) <|
  lt (upd a_busy p1.toNatClampNeg v8) fun u10 =>
  if p1 = 0 then
    lt (i_empties - (1 : Int32)) fun v32 =>
    (f9_drawsR i_y_hold i_water).bind fun rr33 =>
    gd (inb p1 12) <|
    lt (upd a_litres p1.toNatClampNeg rr33.1) fun u35 =>
    gd (inb p1 12) <|
    lt (u35 p1.toNatClampNeg) fun v37 =>
    lt (i_drawn + v37) fun v38 =>
    some (rr33.2, v32, v38, u10, u35, a_stands, a_first)
  else
    gd (inb p1 12) <|
    gd (inb p1 12) <|
    lt (a_first p1.toNatClampNeg) fun v15 =>
    gd (inb v15 30) <|
    lt ((g_pails p1.toNatClampNeg) v15.toNatClampNeg) fun v17 =>
    gd (inb p1 12) <|
    lt (upd a_litres p1.toNatClampNeg v17) fun u19 =>
    gd (inb p1 12) <|
    lt (a_first p1.toNatClampNeg) fun v21 =>
    lt (v21 + (1 : Int32)) fun v22 =>
    gd (¬ (30 : Int32) = 0) <|
    lt (v22 - v22 / (30 : Int32) * (30 : Int32)) fun v23 =>
    gd (inb p1 12) <|
    lt (upd a_first p1.toNatClampNeg v23) fun u26 =>
    gd (inb p1 12) <|
    lt (a_stands p1.toNatClampNeg) fun v28 =>
    lt (v28 - (1 : Int32)) fun v29 =>
    gd (inb p1 12) <|
    lt (upd a_stands p1.toNatClampNeg v29) fun u31 =>
    some (i_water, i_empties, i_drawn, u10, u19, u31, u26)

noncomputable def f10_starts (p1 : Int32) (i_y_way : Int32) (i_y_hold : Int32) (i_y_draw : Int32) (i_y_thrown : Int32) (i_many : Int32) (i_water : Int32) (i_empties : Int32) (i_drawn : Int32) (a_men : Nat → Int32) (a_done : Nat → Int32) (a_busy : Nat → Int32) (a_litres : Nat → Int32) (a_stands : Nat → Int32) (a_first : Nat → Int32) (q_y_men : Nat → Option Nat) (mi_hand : Nat → Int32) (mi_power : Nat → Int32) (g_pails : Nat → Nat → Int32) : Option (Int32 × Int32 × Int32 × (Nat → Int32) × (Nat → Int32) × (Nat → Int32) × (Nat → Int32)) :=
  (f10_time p1 i_y_way i_y_draw i_y_thrown i_many a_men q_y_men mi_hand).bind fun rr1 =>
  gd (inb p1 12) <|
  lt (a_done p1.toNatClampNeg) fun v3 =>
  (f9_manR p1 a_men q_y_men).bind fun rr4 =>
  (rr4).bind fun m5 =>
  lt (mi_power m5) fun v6 =>
  lt ((10 : Int32) * v6) fun v7 =>
  if v3 < v7 then
    f10_starts_j35 p1 i_y_hold i_water i_empties i_drawn a_busy a_litres a_stands a_first g_pails rr1 (1 : Int32)
  else
    f10_starts_j35 p1 i_y_hold i_water i_empties i_drawn a_busy a_litres a_stands a_first g_pails rr1 (2 : Int32)
set_option maxHeartbeats 4000000 in
theorem m10_starts (l : Launch) (G : gG) (K : gK) (I : gI) (J : gJ) (X : gX) (A : gI) (B : gJ) (Q : gX) (o : Nat) (y : Nat) (sh_o : Sh K X o 7 rows7) (sh_y : Sh K X y 3 rows3) (x_o_yard : X 701 o = some y) (shG : ∀ j, j < 12 → K (o + 9 + j) = some (.inr (0, 30)) ∧ Q (o + 8) j = some (o + 9 + j)) (p1 : Int32) (i_y_way : Int32) (i_y_hold : Int32) (i_y_draw : Int32) (i_y_thrown : Int32) (i_many : Int32) (i_water : Int32) (i_empties : Int32) (i_drawn : Int32) (a_men : Nat → Int32) (a_done : Nat → Int32) (a_busy : Nat → Int32) (a_litres : Nat → Int32) (a_stands : Nat → Int32) (a_first : Nat → Int32) (q_y_men : Nat → Option Nat) (mi_hand : Nat → Int32) (mi_power : Nat → Int32) (g_pails : Nat → Nat → Int32) (e_i_y_way : I 306 y = i_y_way) (e_i_y_hold : I 308 y = i_y_hold) (e_i_y_draw : I 309 y = i_y_draw) (e_i_y_thrown : I 313 y = i_y_thrown) (e_i_many : I 702 o = i_many) (e_i_water : I 703 o = i_water) (e_i_empties : I 714 o = i_empties) (e_i_drawn : I 717 o = i_drawn) (e_a_men : A (o + 1) = a_men) (e_a_done : A (o + 2) = a_done) (e_a_busy : A (o + 3) = a_busy) (e_a_litres : A (o + 4) = a_litres) (e_a_stands : A (o + 5) = a_stands) (e_a_first : A (o + 6) = a_first) (e_q_y_men : Q (y + 1) = q_y_men) (e_mi_hand : I 1201 = mi_hand) (e_mi_power : I 1203 = mi_power) (e_g_pails : ∀ j, j < 12 → A (o + 9 + j) = g_pails j) (hman : ∀ (j m : Nat), q_y_men j = some m → K m = some (.inl 12)) (out : Int32 × Int32 × Int32 × (Nat → Int32) × (Nat → Int32) × (Nat → Int32) × (Nat → Int32)) (hf : f10_starts p1 i_y_way i_y_hold i_y_draw i_y_thrown i_many i_water i_empties i_drawn a_men a_done a_busy a_litres a_stands a_first q_y_men mi_hand mi_power g_pails = some out) : GMet l yX10_starts cX10_starts 2 none (2) (43) G [.ref o, .int p1] K I J X A B Q none K (ov I [(703, o, out.1), (714, o, out.2.1), (717, o, out.2.2.1)]) J X (ova A [((o + 1), a_men), ((o + 2), a_done), ((o + 3), out.2.2.2.1), ((o + 4), out.2.2.2.2.1), ((o + 5), out.2.2.2.2.2.1), ((o + 6), out.2.2.2.2.2.2)]) B Q 0 0 := by
  refine GMet.of (y := yX10_starts) rfl (Nat.le_of_ble_eq_true rfl) rfl ?_
  intro p e s m below meth c ls hx hb hr hml hlocks hts hown hname hG hR hl
  have hown : s.vm.findClass RX10 = some m.cls := hown
  have k_a_men : K (o + 1) = some (.inr (0, 12)) := (sh_o.2 0 _ rfl).1
  have k_a_done : K (o + 2) = some (.inr (0, 12)) := (sh_o.2 1 _ rfl).1
  have k_a_busy : K (o + 3) = some (.inr (0, 12)) := (sh_o.2 2 _ rfl).1
  have k_a_litres : K (o + 4) = some (.inr (0, 12)) := (sh_o.2 3 _ rfl).1
  have k_a_stands : K (o + 5) = some (.inr (0, 12)) := (sh_o.2 4 _ rfl).1
  have k_a_first : K (o + 6) = some (.inr (0, 12)) := (sh_o.2 5 _ rfl).1
  have k_q_y_men : K (y + 1) = some (.inr (4, 12)) := (sh_y.2 0 _ rfl).1
  have k_pails : K (o + 8) = some (.inr (9, 12)) := (sh_o.2 7 _ rfl).1
  have hN_A : nda [(o + 1), (o + 2), (o + 3), (o + 4), (o + 5), (o + 6)] := nd_off o [1, 2, 3, 4, 5, 6] rfl
  have hR : RS G K (ov I [(703, o, i_water), (714, o, i_empties), (717, o, i_drawn)]) J X (ova A [((o + 1), a_men), ((o + 2), a_done), ((o + 3), a_busy), ((o + 4), a_litres), ((o + 5), a_stands), ((o + 6), a_first)]) B Q s.heap := hR.to (Eq.symm (ov_sc e_i_water (ov_sc e_i_empties (ov_sc e_i_drawn rfl)))) rfl rfl (Eq.symm (ova_sc e_a_men (ova_sc e_a_done (ova_sc e_a_busy (ova_sc e_a_litres (ova_sc e_a_stands (ova_sc e_a_first rfl))))))) rfl rfl
  have hS : va_S (gA G) s.heap s.heap [] := va_S.rf
  have hend : ∀ (pc : Nat) (H : Heap) (locs : List Loc) (ls : Array Slot), decode cX10_starts pc = .ok (.return_, 1) → RS G K (ov I [(703, o, out.1), (714, o, out.2.1), (717, o, out.2.2.1)]) J X (ova A [((o + 1), a_men), ((o + 2), a_done), ((o + 3), out.2.2.2.1), ((o + 4), out.2.2.2.2.1), ((o + 5), out.2.2.2.2.2.1), ((o + 6), out.2.2.2.2.2.2)]) B Q H → va_S (gA G) s.heap H locs → W p l e ({ frames := 2, cells := 0, slots := 0, locals := 43 } : Room) s m ([.ref o, .int p1] : List Value).toArray below meth c H locs 0 0 (MQ below (gQ G none K (ov I [(703, o, out.1), (714, o, out.2.1), (717, o, out.2.2.1)]) J X (ova A [((o + 1), a_men), ((o + 2), a_done), ((o + 3), out.2.2.2.1), ((o + 4), out.2.2.2.2.1), ((o + 5), out.2.2.2.2.2.1), ((o + 6), out.2.2.2.2.2.2)]) B Q) ([.ref o, .int p1] : List Value).toArray s 0 0 (gA G)) (F0 m pc ls []) := fun pc H locs ls hd hR hS => g_vret hx hb hr hlocks hG hR hS rfl hd
  generalize MQ below (gQ G none K (ov I [(703, o, out.1), (714, o, out.2.1), (717, o, out.2.2.1)]) J X (ova A [((o + 1), a_men), ((o + 2), a_done), ((o + 3), out.2.2.2.1), ((o + 4), out.2.2.2.2.1), ((o + 5), out.2.2.2.2.2.1), ((o + 6), out.2.2.2.2.2.2)]) B Q) ([.ref o, .int p1] : List Value).toArray s 0 0 (gA G) = Z at hend ⊢
  generalize ([.ref o, .int p1] : List Value).toArray = args at hts hend ⊢
  unfold f10_starts at hf
  refine lv_aload_n hx hb dX10_starts_0 rfl (lv_at hl 0 rfl) ?_
  refine g_getr (b := (o + 3)) hx hb hts hown hG hR gFx_X10_15_7 sh_o.1 ((sh_o.2 2 _ rfl).2) dX10_starts_1 ?_
  refine lv_iload_n hx hb dX10_starts_4 rfl (lv_at hl 1 rfl) ?_
  refine lv_aload_n hx hb dX10_starts_5 rfl (lv_at hl 0 rfl) ?_
  refine lv_iload_n hx hb dX10_starts_6 rfl (lv_at hl 1 rfl) ?_
  obtain ⟨rr1, hrr1, hf⟩ := bind_s hf
  refine g0_cV (rm := (1, 21)) (As := [.int p1]) (rest := [.int p1, .ref (o + 3)]) ⟨hx, hb, hml, hown, hts⟩ hG hR hS (m10_time l G K (ov I [(703, o, i_water), (714, o, i_empties), (717, o, i_drawn)]) J X (ova A [((o + 1), a_men), ((o + 2), a_done), ((o + 3), a_busy), ((o + 4), a_litres), ((o + 5), a_stands), ((o + 6), a_first)]) B Q o y sh_o sh_y x_o_yard p1 i_y_way i_y_draw i_y_thrown i_many a_men q_y_men mi_hand ((congrFun (ov_no rfl) _).trans e_i_y_way) ((congrFun (ov_no rfl) _).trans e_i_y_draw) ((congrFun (ov_no rfl) _).trans e_i_y_thrown) ((congrFun (ov_no rfl) _).trans e_i_many) (ova_get 0 hN_A rfl) e_q_y_men ((ov_no rfl).trans e_mi_hand) hman rr1 hrr1) (cwV 1 hts gi_X10_91 rfl rfl rfl hd_X10_time ⟨Nat.le_of_ble_eq_true rfl, Nat.le_of_ble_eq_true rfl⟩) sh_o.1 rfl rfl hl.1 (Nat.le_of_ble_eq_true rfl) dX10_starts_7 ⟨Nat.le_refl _, Nat.le_refl _⟩ rfl (fun H locs hR hS => ?_)
  refine lv_aload_n hx hb dX10_starts_10 rfl (lv_at hl 0 rfl) ?_
  refine g_getr (b := (o + 2)) hx hb hts hown hG hR gFx_X10_9_7 sh_o.1 ((sh_o.2 1 _ rfl).2) dX10_starts_11 ?_
  refine lv_iload_n hx hb dX10_starts_14 rfl (lv_at hl 1 rfl) ?_
  obtain ⟨c2, hf⟩ := gd_some hf
  obtain ⟨v3, ev3, hf⟩ := lt_some hf
  refine n_iald (x := a_done) hx hb hG hR k_a_done c2 (ova_get 1 hN_A rfl) ev3 dX10_starts_15 ?_
  refine lv_bipush (v := 10) hx hb dX10_starts_16 lb_10 ?_
  refine lv_aload_n hx hb dX10_starts_18 rfl (lv_at hl 0 rfl) ?_
  refine lv_iload_n hx hb dX10_starts_19 rfl (lv_at hl 1 rfl) ?_
  obtain ⟨rr4, hrr4, hf⟩ := bind_s hf
  refine g0_cU (rm := (0, 0)) (As := [.int p1]) (rest := [.int (10 : Int32), .int v3, .int rr1, .int p1, .ref (o + 3)]) ⟨hx, hb, hml, hown, hts⟩ hG hR hS (m9_manR l G K (ov I [(703, o, i_water), (714, o, i_empties), (717, o, i_drawn)]) J X (ova A [((o + 1), a_men), ((o + 2), a_done), ((o + 3), a_busy), ((o + 4), a_litres), ((o + 5), a_stands), ((o + 6), a_first)]) B Q o y sh_o sh_y x_o_yard p1 a_men q_y_men (ova_get 0 hN_A rfl) e_q_y_men rr4 hrr4) (va_cwU (x := ⟨"PailRow$Row", "man", "(I)LPailRow$Man;"⟩) (owner := "PailRow$Team") 1 hts gu_X10_76_7 rfl rfl rfl rfl ⟨by decide, by decide, (hd_X9_man.2).2.2⟩ ⟨Nat.le_of_ble_eq_true rfl, Nat.le_of_ble_eq_true rfl⟩) sh_o.1 rfl rfl hl.1 (Nat.le_of_ble_eq_true rfl) dX10_starts_20 ⟨Nat.le_refl _, Nat.le_refl _⟩ rfl (fun H locs hR hS => ?_)
  obtain ⟨m5, hm5, hf⟩ := bind_s hf
  obtain ⟨v6, ev6, hf⟩ := lt_some hf
  refine n_some hm5 ?_
  have k_m5 : K m5 = some (.inl 12) := (man_k hman (f9_manR_q hrr4) hm5)
  refine n_geti (v := v6) hx hb hts hown hG hR gFi_X10_120_12 k_m5 ((congrFun (ov_no rfl) m5).trans ((congrFun e_mi_power m5).trans ev6.symm)) dX10_starts_23 ?_
  obtain ⟨v7, ev7, hf⟩ := lt_some hf
  refine n_imul hx hb ev7 dX10_starts_26 ?_
  have hj35 : ∀ (j35_s0 : Int32), f10_starts_j35 p1 i_y_hold i_water i_empties i_drawn a_busy a_litres a_stands a_first g_pails rr1 j35_s0 = some out → ∀ (H : Heap) (locs : List Loc) (ls : Array Slot), RS G K (ov I [(703, o, i_water), (714, o, i_empties), (717, o, i_drawn)]) J X (ova A [((o + 1), a_men), ((o + 2), a_done), ((o + 3), a_busy), ((o + 4), a_litres), ((o + 5), a_stands), ((o + 6), a_first)]) B Q H → va_S (gA G) s.heap H locs → lv_has ls 2 [(0, .ref o), (1, .int p1)] → W p l e ({ frames := 2, cells := 0, slots := 0, locals := 43 } : Room) s m args below meth c H locs 0 0 Z (F0 m 35 ls [.int j35_s0, .int rr1, .int p1, .ref (o + 3)]) := by
    intro j35_s0 hf H locs ls hR hS hl
    unfold f10_starts_j35 at hf
    obtain ⟨v8, ev8, hf⟩ := lt_some hf
    refine n_imul hx hb ev8 dX10_starts_35 ?_
    obtain ⟨c9, hf⟩ := gd_some hf
    obtain ⟨u10, eu10, hf⟩ := lt_some hf
    refine n_iast (la' := [((o + 1), a_men), ((o + 2), a_done), ((o + 3), u10), ((o + 4), a_litres), ((o + 5), a_stands), ((o + 6), a_first)]) hx hb hG hR hS k_a_busy c9 hN_A 2 rfl eu10 rfl dX10_starts_36 (fun H locs hR hS => ?_)
    refine lv_iload_n hx hb dX10_starts_37 rfl (lv_at hl 1 rfl) ?_
    refine lv_if_ne (tgt := 77) hx hb dX10_starts_38 (by decide) (fun c11 => ?_) (fun c11 => ?_)
    · have hf := ite_f c11 hf
      refine lv_aload_n hx hb dX10_starts_77 rfl (lv_at hl 0 rfl) ?_
      refine g_getr (b := (o + 4)) hx hb hts hown hG hR gFx_X10_18_7 sh_o.1 ((sh_o.2 3 _ rfl).2) dX10_starts_78 ?_
      refine lv_iload_n hx hb dX10_starts_81 rfl (lv_at hl 1 rfl) ?_
      refine lv_aload_n hx hb dX10_starts_82 rfl (lv_at hl 0 rfl) ?_
      refine g_getr (b := (o + 8)) hx hb hts hown hG hR gFx_X10_32_7 sh_o.1 ((sh_o.2 7 _ rfl).2) dX10_starts_83 ?_
      refine lv_iload_n hx hb dX10_starts_86 rfl (lv_at hl 1 rfl) ?_
      obtain ⟨c12, hf⟩ := gd_some hf
      have hj13 : p1.toNatClampNeg < 12 := inb_lt c12
      refine g_aaldr (b := o + 9 + p1.toNatClampNeg) hx hb hG hR (t := 5) k_pails (by decide) c12 ((shG _ hj13).2) dX10_starts_87 ?_
      refine lv_aload_n hx hb dX10_starts_88 rfl (lv_at hl 0 rfl) ?_
      refine g_getr (b := (o + 6)) hx hb hts hown hG hR gFx_X10_24_7 sh_o.1 ((sh_o.2 5 _ rfl).2) dX10_starts_89 ?_
      refine lv_iload_n hx hb dX10_starts_92 rfl (lv_at hl 1 rfl) ?_
      obtain ⟨c14, hf⟩ := gd_some hf
      obtain ⟨v15, ev15, hf⟩ := lt_some hf
      refine n_iald (x := a_first) hx hb hG hR k_a_first c14 (ova_get 5 hN_A rfl) ev15 dX10_starts_93 ?_
      obtain ⟨c16, hf⟩ := gd_some hf
      obtain ⟨v17, ev17, hf⟩ := lt_some hf
      refine n_iald (x := (g_pails p1.toNatClampNeg)) hx hb hG hR ((shG _ hj13).1) c16 ((fun j hj => (ova_no (by show o + 9 + j ∉ [(o + 1), (o + 2), (o + 3), (o + 4), (o + 5), (o + 6)]; simp only [List.mem_cons, List.not_mem_nil, or_false, not_or]; omega)).trans (e_g_pails j hj)) _ hj13) ev17 dX10_starts_94 ?_
      obtain ⟨c18, hf⟩ := gd_some hf
      obtain ⟨u19, eu19, hf⟩ := lt_some hf
      refine n_iast (la' := [((o + 1), a_men), ((o + 2), a_done), ((o + 3), u10), ((o + 4), u19), ((o + 5), a_stands), ((o + 6), a_first)]) hx hb hG hR hS k_a_litres c18 hN_A 3 rfl eu19 rfl dX10_starts_95 (fun H locs hR hS => ?_)
      refine lv_aload_n hx hb dX10_starts_96 rfl (lv_at hl 0 rfl) ?_
      refine g_getr (b := (o + 6)) hx hb hts hown hG hR gFx_X10_24_7 sh_o.1 ((sh_o.2 5 _ rfl).2) dX10_starts_97 ?_
      refine lv_iload_n hx hb dX10_starts_100 rfl (lv_at hl 1 rfl) ?_
      refine lv_aload_n hx hb dX10_starts_101 rfl (lv_at hl 0 rfl) ?_
      refine g_getr (b := (o + 6)) hx hb hts hown hG hR gFx_X10_24_7 sh_o.1 ((sh_o.2 5 _ rfl).2) dX10_starts_102 ?_
      refine lv_iload_n hx hb dX10_starts_105 rfl (lv_at hl 1 rfl) ?_
      obtain ⟨c20, hf⟩ := gd_some hf
      obtain ⟨v21, ev21, hf⟩ := lt_some hf
      refine n_iald (x := a_first) hx hb hG hR k_a_first c20 (ova_get 5 hN_A rfl) ev21 dX10_starts_106 ?_
      refine lv_iconst (v := 1) hx hb dX10_starts_107 li_1 ?_
      obtain ⟨v22, ev22, hf⟩ := lt_some hf
      refine n_iadd hx hb ev22 dX10_starts_108 ?_
      refine lv_bipush (v := 30) hx hb dX10_starts_109 lb_30 ?_
      obtain ⟨c24, hf⟩ := gd_some hf
      obtain ⟨v23, ev23, hf⟩ := lt_some hf
      refine n_irem hx hb c24 ev23 dX10_starts_111 ?_
      obtain ⟨c25, hf⟩ := gd_some hf
      obtain ⟨u26, eu26, hf⟩ := lt_some hf
      refine n_iast (la' := [((o + 1), a_men), ((o + 2), a_done), ((o + 3), u10), ((o + 4), u19), ((o + 5), a_stands), ((o + 6), u26)]) hx hb hG hR hS k_a_first c25 hN_A 5 rfl eu26 rfl dX10_starts_112 (fun H locs hR hS => ?_)
      refine lv_aload_n hx hb dX10_starts_113 rfl (lv_at hl 0 rfl) ?_
      refine g_getr (b := (o + 5)) hx hb hts hown hG hR gFx_X10_21_7 sh_o.1 ((sh_o.2 4 _ rfl).2) dX10_starts_114 ?_
      refine lv_iload_n hx hb dX10_starts_117 rfl (lv_at hl 1 rfl) ?_
      refine lv_dup2_11 hx hb dX10_starts_118 rfl rfl ?_
      obtain ⟨c27, hf⟩ := gd_some hf
      obtain ⟨v28, ev28, hf⟩ := lt_some hf
      refine n_iald (x := a_stands) hx hb hG hR k_a_stands c27 (ova_get 4 hN_A rfl) ev28 dX10_starts_119 ?_
      refine lv_iconst (v := 1) hx hb dX10_starts_120 li_1 ?_
      obtain ⟨v29, ev29, hf⟩ := lt_some hf
      refine n_isub hx hb ev29 dX10_starts_121 ?_
      obtain ⟨c30, hf⟩ := gd_some hf
      obtain ⟨u31, eu31, hf⟩ := lt_some hf
      refine n_iast (la' := [((o + 1), a_men), ((o + 2), a_done), ((o + 3), u10), ((o + 4), u19), ((o + 5), u31), ((o + 6), u26)]) hx hb hG hR hS k_a_stands c30 hN_A 4 rfl eu31 rfl dX10_starts_122 (fun H locs hR hS => ?_)
      obtain rfl := some_i hf
      exact hend _ _ _ _ dX10_starts_123 hR hS
    · have hf := ite_t c11 hf
      refine lv_aload_n hx hb dX10_starts_41 rfl (lv_at hl 0 rfl) ?_
      refine lv_dup hx hb dX10_starts_42 rfl ?_
      refine n_geti (v := i_empties) hx hb hts hown hG hR gFi_X10_47_7 sh_o.1 (ov_get 1 rfl rfl) dX10_starts_43 ?_
      refine lv_iconst (v := 1) hx hb dX10_starts_46 li_1 ?_
      obtain ⟨v32, ev32, hf⟩ := lt_some hf
      refine n_isub hx hb ev32 dX10_starts_47 ?_
      refine n_puti (li' := [(703, o, i_water), (714, o, v32), (717, o, i_drawn)]) hx hb hts hown hG hR hS gPi_X10_47_7 sh_o.1 1 rfl rfl rfl dX10_starts_48 (fun H locs hR hS => ?_)
      refine lv_aload_n hx hb dX10_starts_51 rfl (lv_at hl 0 rfl) ?_
      refine g_getr (b := (o + 4)) hx hb hts hown hG hR gFx_X10_18_7 sh_o.1 ((sh_o.2 3 _ rfl).2) dX10_starts_52 ?_
      refine lv_iload_n hx hb dX10_starts_55 rfl (lv_at hl 1 rfl) ?_
      refine lv_aload_n hx hb dX10_starts_56 rfl (lv_at hl 0 rfl) ?_
      obtain ⟨rr33, hrr33, hf⟩ := bind_s hf
      refine g0_cU (rm := (1, 21)) (As := []) (rest := [.int p1, .ref (o + 4)]) ⟨hx, hb, hml, hown, hts⟩ hG hR hS (m9_drawsR l G K (ov I [(703, o, i_water), (714, o, v32), (717, o, i_drawn)]) J X (ova A [((o + 1), a_men), ((o + 2), a_done), ((o + 3), u10), ((o + 4), a_litres), ((o + 5), a_stands), ((o + 6), a_first)]) B Q o y sh_o sh_y x_o_yard i_y_hold i_water ((congrFun (ov_no rfl) _).trans e_i_y_hold) (ov_get 0 rfl rfl) rr33 hrr33) (va_cwU (x := ⟨"PailRow$Row", "draws", "()I"⟩) (owner := "PailRow$Team") 0 hts gu_X10_123_7 rfl rfl rfl rfl ⟨by decide, by decide, (hd_X9_draws.2).2.2⟩ ⟨Nat.le_of_ble_eq_true rfl, Nat.le_of_ble_eq_true rfl⟩) sh_o.1 rfl rfl hl.1 (Nat.le_of_ble_eq_true rfl) dX10_starts_57 ⟨Nat.le_refl _, Nat.le_refl _⟩ rfl (fun H locs hR hS => ?_)
      have hR : RS G K (ov I [(703, o, rr33.2), (714, o, v32), (717, o, i_drawn)]) J X (ova A [((o + 1), a_men), ((o + 2), a_done), ((o + 3), u10), ((o + 4), a_litres), ((o + 5), a_stands), ((o + 6), a_first)]) B Q H := hR.to (ov_merge (l := [(703, o, i_water), (714, o, v32), (717, o, i_drawn)]) rfl [0] [(703, o, rr33.2)] rfl rfl) rfl rfl rfl rfl rfl
      obtain ⟨c34, hf⟩ := gd_some hf
      obtain ⟨u35, eu35, hf⟩ := lt_some hf
      refine n_iast (la' := [((o + 1), a_men), ((o + 2), a_done), ((o + 3), u10), ((o + 4), u35), ((o + 5), a_stands), ((o + 6), a_first)]) hx hb hG hR hS k_a_litres c34 hN_A 3 rfl eu35 rfl dX10_starts_60 (fun H locs hR hS => ?_)
      refine lv_aload_n hx hb dX10_starts_61 rfl (lv_at hl 0 rfl) ?_
      refine lv_dup hx hb dX10_starts_62 rfl ?_
      refine n_geti (v := i_drawn) hx hb hts hown hG hR gFi_X10_56_7 sh_o.1 (ov_get 2 rfl rfl) dX10_starts_63 ?_
      refine lv_aload_n hx hb dX10_starts_66 rfl (lv_at hl 0 rfl) ?_
      refine g_getr (b := (o + 4)) hx hb hts hown hG hR gFx_X10_18_7 sh_o.1 ((sh_o.2 3 _ rfl).2) dX10_starts_67 ?_
      refine lv_iload_n hx hb dX10_starts_70 rfl (lv_at hl 1 rfl) ?_
      obtain ⟨c36, hf⟩ := gd_some hf
      obtain ⟨v37, ev37, hf⟩ := lt_some hf
      refine n_iald (x := u35) hx hb hG hR k_a_litres c36 (ova_get 3 hN_A rfl) ev37 dX10_starts_71 ?_
      obtain ⟨v38, ev38, hf⟩ := lt_some hf
      refine n_iadd hx hb ev38 dX10_starts_72 ?_
      refine n_puti (li' := [(703, o, rr33.2), (714, o, v32), (717, o, v38)]) hx hb hts hown hG hR hS gPi_X10_56_7 sh_o.1 2 rfl rfl rfl dX10_starts_73 (fun H locs hR hS => ?_)
      obtain rfl := some_i hf
      exact hend _ _ _ _ dX10_starts_76 hR hS
  refine lv_icmp_lt (tgt := 34) hx hb dX10_starts_27 (by decide) (fun c39 => ?_) (fun c39 => ?_)
  · have hf := ite_t c39 hf
    refine lv_iconst (v := 1) hx hb dX10_starts_34 li_1 ?_
    exact hj35 (1 : Int32) hf _ _ _ hR hS (lv_sub hl [0, 1] rfl)
  · have hf := ite_f c39 hf
    refine lv_iconst (v := 2) hx hb dX10_starts_30 li_2 ?_
    refine lv_goto (tgt := 35) hx hb dX10_starts_31 (by decide) ?_
    exact hj35 (2 : Int32) hf _ _ _ hR hS (lv_sub hl [0, 1] rfl)
noncomputable def f10_ticks_e4_0 (x4_0 : Int32 × Int32 × Int32 × Int32 × Int32 × Int32 × Int32 × (Nat → Int32) × (Nat → Int32) × (Nat → Int32) × (Nat → Int32) × (Nat → Int32) × (Nat → Int32) × (Nat → Int32) × (Nat → Nat → Int32)) : Option (Int32 × Int32 × Int32 × Int32 × Int32 × Int32 × Int32 × (Nat → Int32) × (Nat → Int32) × (Nat → Int32) × (Nat → Int32) × (Nat → Int32) × (Nat → Int32) × (Nat → Int32) × (Nat → Nat → Int32)) :=
  some x4_0

noncomputable def f10_ticks_s4 (i_many : Int32) (x1_0 : Int32 × Int32 × Int32) (x3_0 : Int32 × Int32 × Int32 × Int32 × Int32 × Int32 × (Nat → Int32) × (Nat → Int32) × (Nat → Int32) × (Nat → Int32) × (Nat → Int32) × (Nat → Int32) × (Nat → Nat → Int32)) (w4_1 : Int32) (w4_a_heaps : Nat → Int32) : Option ((Int32 × (Nat → Int32)) ⊕ (Int32 × Int32 × Int32 × Int32 × Int32 × Int32 × Int32 × (Nat → Int32) × (Nat → Int32) × (Nat → Int32) × (Nat → Int32) × (Nat → Int32) × (Nat → Int32) × (Nat → Int32) × (Nat → Nat → Int32))) :=
  if i_many ≤ w4_1 then
    some (.inr (x3_0.1, x3_0.2.1, x3_0.2.2.1, x1_0.2.1, x3_0.2.2.2.1, x3_0.2.2.2.2.1, x3_0.2.2.2.2.2.1, x3_0.2.2.2.2.2.2.1, x3_0.2.2.2.2.2.2.2.1, x3_0.2.2.2.2.2.2.2.2.1, x3_0.2.2.2.2.2.2.2.2.2.1, x3_0.2.2.2.2.2.2.2.2.2.2.1, w4_a_heaps, x3_0.2.2.2.2.2.2.2.2.2.2.2.1, x3_0.2.2.2.2.2.2.2.2.2.2.2.2))
  else
    gd (inb w4_1 12) <|
    lt (w4_a_heaps w4_1.toNatClampNeg) fun v7 =>
    gd (inb w4_1 12) <|
    lt (x3_0.2.2.2.2.2.2.2.2.2.1 w4_1.toNatClampNeg) fun v9 =>
    lt (if v7 < v9 then v9 else v7) fun v10 =>
    gd (inb w4_1 12) <|
    lt (upd w4_a_heaps w4_1.toNatClampNeg v10) fun u12 =>
    lt (w4_1 + (1 : Int32)) fun v13 =>
    some (.inl (v13, u12))

noncomputable def f10_ticks_e3_0 (i_many : Int32) (a_heaps : Nat → Int32) (x1_0 : Int32 × Int32 × Int32) (x3_0 : Int32 × Int32 × Int32 × Int32 × Int32 × Int32 × (Nat → Int32) × (Nat → Int32) × (Nat → Int32) × (Nat → Int32) × (Nat → Int32) × (Nat → Int32) × (Nat → Nat → Int32)) : Option (Int32 × Int32 × Int32 × Int32 × Int32 × Int32 × Int32 × (Nat → Int32) × (Nat → Int32) × (Nat → Int32) × (Nat → Int32) × (Nat → Int32) × (Nat → Int32) × (Nat → Int32) × (Nat → Nat → Int32)) :=
  (whl (fun (s4 : Int32 × (Nat → Int32)) => f10_ticks_s4 i_many x1_0 x3_0 s4.1 s4.2) FU ((1 : Int32), a_heaps)).bind fun rl4 =>
  f10_ticks_e4_0 rl4

noncomputable def f10_ticks_j147 (w3_1 : Int32) (j103_i_thrown : Int32) (j103_i_backMany : Int32) (j103_i_spilt : Int32) (j103_a_done : Nat → Int32) (j103_a_backs : Nat → Int32) (j103_g_pails : Nat → Nat → Int32) (j147_i_water : Int32) (j147_i_empties : Int32) (j147_i_drawn : Int32) (j147_a_busy : Nat → Int32) (j147_a_litres : Nat → Int32) (j147_a_stands : Nat → Int32) (j147_a_first : Nat → Int32) : Option ((Int32 × Int32 × Int32 × Int32 × Int32 × Int32 × Int32 × (Nat → Int32) × (Nat → Int32) × (Nat → Int32) × (Nat → Int32) × (Nat → Int32) × (Nat → Int32) × (Nat → Nat → Int32)) ⊕ (Int32 × Int32 × Int32 × Int32 × Int32 × Int32 × (Nat → Int32) × (Nat → Int32) × (Nat → Int32) × (Nat → Int32) × (Nat → Int32) × (Nat → Int32) × (Nat → Nat → Int32))) :=
  lt (w3_1 + (-1 : Int32)) fun v19 =>
  some (.inl (v19, j147_i_water, j103_i_thrown, j147_i_empties, j103_i_backMany, j147_i_drawn, j103_i_spilt, j103_a_done, j147_a_busy, j147_a_litres, j147_a_stands, j147_a_first, j103_a_backs, j103_g_pails))

noncomputable def f10_ticks_j142 (i_y_way : Int32) (i_y_hold : Int32) (i_y_draw : Int32) (i_y_thrown : Int32) (i_many : Int32) (a_men : Nat → Int32) (q_y_men : Nat → Option Nat) (mi_hand : Nat → Int32) (mi_power : Nat → Int32) (w3_1 : Int32) (w3_i_water : Int32) (w3_i_empties : Int32) (w3_i_drawn : Int32) (w3_a_litres : Nat → Int32) (w3_a_first : Nat → Int32) (j103_i_thrown : Int32) (j103_i_backMany : Int32) (j103_i_spilt : Int32) (j103_a_done : Nat → Int32) (j103_a_busy : Nat → Int32) (j103_a_stands : Nat → Int32) (j103_a_backs : Nat → Int32) (j103_g_pails : Nat → Nat → Int32) : Option ((Int32 × Int32 × Int32 × Int32 × Int32 × Int32 × Int32 × (Nat → Int32) × (Nat → Int32) × (Nat → Int32) × (Nat → Int32) × (Nat → Int32) × (Nat → Int32) × (Nat → Nat → Int32)) ⊕ (Int32 × Int32 × Int32 × Int32 × Int32 × Int32 × (Nat → Int32) × (Nat → Int32) × (Nat → Int32) × (Nat → Int32) × (Nat → Int32) × (Nat → Int32) × (Nat → Nat → Int32))) :=
  (f10_starts w3_1 i_y_way i_y_hold i_y_draw i_y_thrown i_many w3_i_water w3_i_empties w3_i_drawn a_men j103_a_done j103_a_busy w3_a_litres j103_a_stands w3_a_first q_y_men mi_hand mi_power j103_g_pails).bind fun rr21 =>
  f10_ticks_j147 w3_1 j103_i_thrown j103_i_backMany j103_i_spilt j103_a_done j103_a_backs j103_g_pails rr21.1 rr21.2.1 rr21.2.2.1 rr21.2.2.2.1 rr21.2.2.2.2.1 rr21.2.2.2.2.2.1 rr21.2.2.2.2.2.2

noncomputable def f10_ticks_j103 (i_y_way : Int32) (i_y_hold : Int32) (i_y_draw : Int32) (i_y_thrown : Int32) (i_many : Int32) (a_men : Nat → Int32) (q_y_men : Nat → Option Nat) (mi_hand : Nat → Int32) (mi_power : Nat → Int32) (w3_1 : Int32) (w3_i_water : Int32) (w3_i_empties : Int32) (w3_i_drawn : Int32) (w3_a_litres : Nat → Int32) (w3_a_first : Nat → Int32) (j103_i_thrown : Int32) (j103_i_backMany : Int32) (j103_i_spilt : Int32) (j103_a_done : Nat → Int32) (j103_a_busy : Nat → Int32) (j103_a_stands : Nat → Int32) (j103_a_backs : Nat → Int32) (j103_g_pails : Nat → Nat → Int32) : Option ((Int32 × Int32 × Int32 × Int32 × Int32 × Int32 × Int32 × (Nat → Int32) × (Nat → Int32) × (Nat → Int32) × (Nat → Int32) × (Nat → Int32) × (Nat → Int32) × (Nat → Nat → Int32)) ⊕ (Int32 × Int32 × Int32 × Int32 × Int32 × Int32 × (Nat → Int32) × (Nat → Int32) × (Nat → Int32) × (Nat → Int32) × (Nat → Int32) × (Nat → Int32) × (Nat → Nat → Int32))) :=
  gd (inb w3_1 12) <|
  lt (j103_a_busy w3_1.toNatClampNeg) fun v18 =>
  if v18 = 0 then
    if w3_1 = 0 then
      if w3_i_empties ≤ 0 then
        f10_ticks_j147 w3_1 j103_i_thrown j103_i_backMany j103_i_spilt j103_a_done j103_a_backs j103_g_pails w3_i_water w3_i_empties w3_i_drawn j103_a_busy w3_a_litres j103_a_stands w3_a_first
      else
        if w3_i_water ≤ 0 then
          f10_ticks_j147 w3_1 j103_i_thrown j103_i_backMany j103_i_spilt j103_a_done j103_a_backs j103_g_pails w3_i_water w3_i_empties w3_i_drawn j103_a_busy w3_a_litres j103_a_stands w3_a_first
        else
          f10_ticks_j142 i_y_way i_y_hold i_y_draw i_y_thrown i_many a_men q_y_men mi_hand mi_power w3_1 w3_i_water w3_i_empties w3_i_drawn w3_a_litres w3_a_first j103_i_thrown j103_i_backMany j103_i_spilt j103_a_done j103_a_busy j103_a_stands j103_a_backs j103_g_pails
    else
      gd (inb w3_1 12) <|
      lt (j103_a_stands w3_1.toNatClampNeg) fun v24 =>
      if v24 ≤ 0 then
        f10_ticks_j147 w3_1 j103_i_thrown j103_i_backMany j103_i_spilt j103_a_done j103_a_backs j103_g_pails w3_i_water w3_i_empties w3_i_drawn j103_a_busy w3_a_litres j103_a_stands w3_a_first
      else
        f10_ticks_j142 i_y_way i_y_hold i_y_draw i_y_thrown i_many a_men q_y_men mi_hand mi_power w3_1 w3_i_water w3_i_empties w3_i_drawn w3_a_litres w3_a_first j103_i_thrown j103_i_backMany j103_i_spilt j103_a_done j103_a_busy j103_a_stands j103_a_backs j103_g_pails
  else
    f10_ticks_j147 w3_1 j103_i_thrown j103_i_backMany j103_i_spilt j103_a_done j103_a_backs j103_g_pails w3_i_water w3_i_empties w3_i_drawn j103_a_busy w3_a_litres j103_a_stands w3_a_first

noncomputable def f10_ticks_s3 (i_y_way : Int32) (i_y_hold : Int32) (i_y_draw : Int32) (i_y_spill : Int32) (i_y_back : Int32) (i_y_thrown : Int32) (i_many : Int32) (i_tick : Int32) (a_men : Nat → Int32) (q_y_men : Nat → Option Nat) (mi_hand : Nat → Int32) (mi_power : Nat → Int32) (x1_0 : Int32 × Int32 × Int32) (w3_1 : Int32) (w3_i_water : Int32) (w3_i_thrown : Int32) (w3_i_empties : Int32) (w3_i_backMany : Int32) (w3_i_drawn : Int32) (w3_i_spilt : Int32) (w3_a_done : Nat → Int32) (w3_a_busy : Nat → Int32) (w3_a_litres : Nat → Int32) (w3_a_stands : Nat → Int32) (w3_a_first : Nat → Int32) (w3_a_backs : Nat → Int32) (w3_g_pails : Nat → Nat → Int32) : Option ((Int32 × Int32 × Int32 × Int32 × Int32 × Int32 × Int32 × (Nat → Int32) × (Nat → Int32) × (Nat → Int32) × (Nat → Int32) × (Nat → Int32) × (Nat → Int32) × (Nat → Nat → Int32)) ⊕ (Int32 × Int32 × Int32 × Int32 × Int32 × Int32 × (Nat → Int32) × (Nat → Int32) × (Nat → Int32) × (Nat → Int32) × (Nat → Int32) × (Nat → Int32) × (Nat → Nat → Int32))) :=
  if w3_1 < 0 then
    some (.inr (w3_i_water, w3_i_thrown, w3_i_empties, w3_i_backMany, w3_i_drawn, w3_i_spilt, w3_a_done, w3_a_busy, w3_a_litres, w3_a_stands, w3_a_first, w3_a_backs, w3_g_pails))
  else
    gd (inb w3_1 12) <|
    lt (w3_a_busy w3_1.toNatClampNeg) fun v16 =>
    if v16 ≤ 0 then
      f10_ticks_j103 i_y_way i_y_hold i_y_draw i_y_thrown i_many a_men q_y_men mi_hand mi_power w3_1 w3_i_water w3_i_empties w3_i_drawn w3_a_litres w3_a_first w3_i_thrown w3_i_backMany w3_i_spilt w3_a_done w3_a_busy w3_a_stands w3_a_backs w3_g_pails
    else
      gd (inb w3_1 12) <|
      lt (w3_a_busy w3_1.toNatClampNeg) fun v30 =>
      lt (v30 - (1 : Int32)) fun v31 =>
      gd (inb w3_1 12) <|
      lt (upd w3_a_busy w3_1.toNatClampNeg v31) fun u33 =>
      gd (inb w3_1 12) <|
      lt (u33 w3_1.toNatClampNeg) fun v35 =>
      if v35 = 0 then
        (f10_ends w3_1 i_y_spill i_y_back i_many w3_i_thrown i_tick x1_0.2.1 w3_i_backMany w3_i_spilt w3_a_done w3_a_litres w3_a_stands w3_a_first w3_a_backs w3_g_pails).bind fun rr37 =>
        f10_ticks_j103 i_y_way i_y_hold i_y_draw i_y_thrown i_many a_men q_y_men mi_hand mi_power w3_1 w3_i_water w3_i_empties w3_i_drawn w3_a_litres w3_a_first rr37.1 rr37.2.1 rr37.2.2.1 rr37.2.2.2.1 u33 rr37.2.2.2.2.1 rr37.2.2.2.2.2.1 rr37.2.2.2.2.2.2
      else
        f10_ticks_j103 i_y_way i_y_hold i_y_draw i_y_thrown i_many a_men q_y_men mi_hand mi_power w3_1 w3_i_water w3_i_empties w3_i_drawn w3_a_litres w3_a_first w3_i_thrown w3_i_backMany w3_i_spilt w3_a_done u33 w3_a_stands w3_a_backs w3_g_pails

noncomputable def f10_ticks_e1_0 (i_y_way : Int32) (i_y_hold : Int32) (i_y_draw : Int32) (i_y_spill : Int32) (i_y_back : Int32) (i_y_thrown : Int32) (i_many : Int32) (i_water : Int32) (i_thrown : Int32) (i_tick : Int32) (i_drawn : Int32) (i_spilt : Int32) (a_men : Nat → Int32) (a_done : Nat → Int32) (a_busy : Nat → Int32) (a_litres : Nat → Int32) (a_stands : Nat → Int32) (a_first : Nat → Int32) (a_heaps : Nat → Int32) (a_backs : Nat → Int32) (q_y_men : Nat → Option Nat) (mi_hand : Nat → Int32) (mi_power : Nat → Int32) (g_pails : Nat → Nat → Int32) (x1_0 : Int32 × Int32 × Int32) : Option (Int32 × Int32 × Int32 × Int32 × Int32 × Int32 × Int32 × (Nat → Int32) × (Nat → Int32) × (Nat → Int32) × (Nat → Int32) × (Nat → Int32) × (Nat → Int32) × (Nat → Int32) × (Nat → Nat → Int32)) :=
  lt (i_many - (1 : Int32)) fun v2 =>
  (whl (fun (s3 : Int32 × Int32 × Int32 × Int32 × Int32 × Int32 × Int32 × (Nat → Int32) × (Nat → Int32) × (Nat → Int32) × (Nat → Int32) × (Nat → Int32) × (Nat → Int32) × (Nat → Nat → Int32)) => f10_ticks_s3 i_y_way i_y_hold i_y_draw i_y_spill i_y_back i_y_thrown i_many i_tick a_men q_y_men mi_hand mi_power x1_0 s3.1 s3.2.1 s3.2.2.1 s3.2.2.2.1 s3.2.2.2.2.1 s3.2.2.2.2.2.1 s3.2.2.2.2.2.2.1 s3.2.2.2.2.2.2.2.1 s3.2.2.2.2.2.2.2.2.1 s3.2.2.2.2.2.2.2.2.2.1 s3.2.2.2.2.2.2.2.2.2.2.1 s3.2.2.2.2.2.2.2.2.2.2.2.1 s3.2.2.2.2.2.2.2.2.2.2.2.2.1 s3.2.2.2.2.2.2.2.2.2.2.2.2.2) FU (v2, i_water, i_thrown, x1_0.1, x1_0.2.2, i_drawn, i_spilt, a_done, a_busy, a_litres, a_stands, a_first, a_backs, g_pails)).bind fun rl3 =>
  f10_ticks_e3_0 i_many a_heaps x1_0 rl3

noncomputable def f10_ticks_s1 (i_tick : Int32) (a_backs : Nat → Int32) (w1_i_empties : Int32) (w1_i_backFirst : Int32) (w1_i_backMany : Int32) : Option ((Int32 × Int32 × Int32) ⊕ (Int32 × Int32 × Int32)) :=
  if w1_i_backMany ≤ 0 then
    some (.inr (w1_i_empties, w1_i_backFirst, w1_i_backMany))
  else
    gd (inb w1_i_backFirst 30) <|
    lt (a_backs w1_i_backFirst.toNatClampNeg) fun v40 =>
    if v40 = i_tick then
      lt (w1_i_backFirst + (1 : Int32)) fun v42 =>
      gd (¬ (30 : Int32) = 0) <|
      lt (v42 - v42 / (30 : Int32) * (30 : Int32)) fun v43 =>
      lt (w1_i_backMany - (1 : Int32)) fun v45 =>
      lt (w1_i_empties + (1 : Int32)) fun v46 =>
      some (.inl (v46, v43, v45))
    else
      some (.inr (w1_i_empties, w1_i_backFirst, w1_i_backMany))

noncomputable def f10_ticks (i_y_way : Int32) (i_y_hold : Int32) (i_y_draw : Int32) (i_y_spill : Int32) (i_y_back : Int32) (i_y_thrown : Int32) (i_many : Int32) (i_water : Int32) (i_thrown : Int32) (i_tick : Int32) (i_empties : Int32) (i_backFirst : Int32) (i_backMany : Int32) (i_drawn : Int32) (i_spilt : Int32) (a_men : Nat → Int32) (a_done : Nat → Int32) (a_busy : Nat → Int32) (a_litres : Nat → Int32) (a_stands : Nat → Int32) (a_first : Nat → Int32) (a_heaps : Nat → Int32) (a_backs : Nat → Int32) (q_y_men : Nat → Option Nat) (mi_hand : Nat → Int32) (mi_power : Nat → Int32) (g_pails : Nat → Nat → Int32) : Option (Int32 × Int32 × Int32 × Int32 × Int32 × Int32 × Int32 × (Nat → Int32) × (Nat → Int32) × (Nat → Int32) × (Nat → Int32) × (Nat → Int32) × (Nat → Int32) × (Nat → Int32) × (Nat → Nat → Int32)) :=
  (whl (fun (s1 : Int32 × Int32 × Int32) => f10_ticks_s1 i_tick a_backs s1.1 s1.2.1 s1.2.2) FU (i_empties, i_backFirst, i_backMany)).bind fun rl1 =>
  f10_ticks_e1_0 i_y_way i_y_hold i_y_draw i_y_spill i_y_back i_y_thrown i_many i_water i_thrown i_tick i_drawn i_spilt a_men a_done a_busy a_litres a_stands a_first a_heaps a_backs q_y_men mi_hand mi_power g_pails rl1
set_option maxHeartbeats 4000000 in
theorem m10_ticks (l : Launch) (G : gG) (K : gK) (I : gI) (J : gJ) (X : gX) (A : gI) (B : gJ) (Q : gX) (o : Nat) (y : Nat) (sh_o : Sh K X o 7 rows7) (sh_y : Sh K X y 3 rows3) (x_o_yard : X 701 o = some y) (shG : ∀ j, j < 12 → K (o + 9 + j) = some (.inr (0, 30)) ∧ Q (o + 8) j = some (o + 9 + j))  (i_y_way : Int32) (i_y_hold : Int32) (i_y_draw : Int32) (i_y_spill : Int32) (i_y_back : Int32) (i_y_thrown : Int32) (i_many : Int32) (i_water : Int32) (i_thrown : Int32) (i_tick : Int32) (i_empties : Int32) (i_backFirst : Int32) (i_backMany : Int32) (i_drawn : Int32) (i_spilt : Int32) (a_men : Nat → Int32) (a_done : Nat → Int32) (a_busy : Nat → Int32) (a_litres : Nat → Int32) (a_stands : Nat → Int32) (a_first : Nat → Int32) (a_heaps : Nat → Int32) (a_backs : Nat → Int32) (q_y_men : Nat → Option Nat) (mi_hand : Nat → Int32) (mi_power : Nat → Int32) (g_pails : Nat → Nat → Int32) (e_i_y_way : I 306 y = i_y_way) (e_i_y_hold : I 308 y = i_y_hold) (e_i_y_draw : I 309 y = i_y_draw) (e_i_y_spill : I 311 y = i_y_spill) (e_i_y_back : I 312 y = i_y_back) (e_i_y_thrown : I 313 y = i_y_thrown) (e_i_many : I 702 o = i_many) (e_i_water : I 703 o = i_water) (e_i_thrown : I 704 o = i_thrown) (e_i_tick : I 705 o = i_tick) (e_i_empties : I 714 o = i_empties) (e_i_backFirst : I 715 o = i_backFirst) (e_i_backMany : I 716 o = i_backMany) (e_i_drawn : I 717 o = i_drawn) (e_i_spilt : I 718 o = i_spilt) (e_a_men : A (o + 1) = a_men) (e_a_done : A (o + 2) = a_done) (e_a_busy : A (o + 3) = a_busy) (e_a_litres : A (o + 4) = a_litres) (e_a_stands : A (o + 5) = a_stands) (e_a_first : A (o + 6) = a_first) (e_a_heaps : A (o + 7) = a_heaps) (e_a_backs : A (o + 21) = a_backs) (e_q_y_men : Q (y + 1) = q_y_men) (e_mi_hand : I 1201 = mi_hand) (e_mi_power : I 1203 = mi_power) (e_g_pails : ∀ j, j < 12 → A (o + 9 + j) = g_pails j) (hman : ∀ (j m : Nat), q_y_men j = some m → K m = some (.inl 12)) (out : Int32 × Int32 × Int32 × Int32 × Int32 × Int32 × Int32 × (Nat → Int32) × (Nat → Int32) × (Nat → Int32) × (Nat → Int32) × (Nat → Int32) × (Nat → Int32) × (Nat → Int32) × (Nat → Nat → Int32)) (hf : f10_ticks i_y_way i_y_hold i_y_draw i_y_spill i_y_back i_y_thrown i_many i_water i_thrown i_tick i_empties i_backFirst i_backMany i_drawn i_spilt a_men a_done a_busy a_litres a_stands a_first a_heaps a_backs q_y_men mi_hand mi_power g_pails = some out) : GMet l yX10_ticks cX10_ticks 2 none (3) (64) G [.ref o] K I J X A B Q none K (ov I [(703, o, out.1), (704, o, out.2.1), (714, o, out.2.2.1), (715, o, out.2.2.2.1), (716, o, out.2.2.2.2.1), (717, o, out.2.2.2.2.2.1), (718, o, out.2.2.2.2.2.2.1)]) J X (ova (ovg A (o + 9) 12 out.2.2.2.2.2.2.2.2.2.2.2.2.2.2) [((o + 1), a_men), ((o + 2), out.2.2.2.2.2.2.2.1), ((o + 3), out.2.2.2.2.2.2.2.2.1), ((o + 4), out.2.2.2.2.2.2.2.2.2.1), ((o + 5), out.2.2.2.2.2.2.2.2.2.2.1), ((o + 6), out.2.2.2.2.2.2.2.2.2.2.2.1), ((o + 7), out.2.2.2.2.2.2.2.2.2.2.2.2.1), ((o + 21), out.2.2.2.2.2.2.2.2.2.2.2.2.2.1)]) B Q 0 0 := by
  refine GMet.of (y := yX10_ticks) rfl (Nat.le_of_ble_eq_true rfl) rfl ?_
  intro p e s m below meth c ls hx hb hr hml hlocks hts hown hname hG hR hl
  have hown : s.vm.findClass RX10 = some m.cls := hown
  have k_a_men : K (o + 1) = some (.inr (0, 12)) := (sh_o.2 0 _ rfl).1
  have k_a_done : K (o + 2) = some (.inr (0, 12)) := (sh_o.2 1 _ rfl).1
  have k_a_busy : K (o + 3) = some (.inr (0, 12)) := (sh_o.2 2 _ rfl).1
  have k_a_litres : K (o + 4) = some (.inr (0, 12)) := (sh_o.2 3 _ rfl).1
  have k_a_stands : K (o + 5) = some (.inr (0, 12)) := (sh_o.2 4 _ rfl).1
  have k_a_first : K (o + 6) = some (.inr (0, 12)) := (sh_o.2 5 _ rfl).1
  have k_a_heaps : K (o + 7) = some (.inr (0, 12)) := (sh_o.2 6 _ rfl).1
  have k_a_backs : K (o + 21) = some (.inr (0, 30)) := (sh_o.2 8 _ rfl).1
  have k_q_y_men : K (y + 1) = some (.inr (4, 12)) := (sh_y.2 0 _ rfl).1
  have k_pails : K (o + 8) = some (.inr (9, 12)) := (sh_o.2 7 _ rfl).1
  have hN_A : nda [(o + 1), (o + 2), (o + 3), (o + 4), (o + 5), (o + 6), (o + 7), (o + 21)] := nd_off o [1, 2, 3, 4, 5, 6, 7, 21] rfl
  have hR : RS G K (ov I [(703, o, i_water), (704, o, i_thrown), (714, o, i_empties), (715, o, i_backFirst), (716, o, i_backMany), (717, o, i_drawn), (718, o, i_spilt)]) J X (ova (ovg A (o + 9) 12 g_pails) [((o + 1), a_men), ((o + 2), a_done), ((o + 3), a_busy), ((o + 4), a_litres), ((o + 5), a_stands), ((o + 6), a_first), ((o + 7), a_heaps), ((o + 21), a_backs)]) B Q s.heap := hR.to (Eq.symm (ov_sc e_i_water (ov_sc e_i_thrown (ov_sc e_i_empties (ov_sc e_i_backFirst (ov_sc e_i_backMany (ov_sc e_i_drawn (ov_sc e_i_spilt rfl)))))))) rfl rfl (Eq.trans (Eq.symm (ova_sc e_a_men (ova_sc e_a_done (ova_sc e_a_busy (ova_sc e_a_litres (ova_sc e_a_stands (ova_sc e_a_first (ova_sc e_a_heaps (ova_sc e_a_backs rfl))))))))) (congrArg (fun z => ova z [((o + 1), a_men), ((o + 2), a_done), ((o + 3), a_busy), ((o + 4), a_litres), ((o + 5), a_stands), ((o + 6), a_first), ((o + 7), a_heaps), ((o + 21), a_backs)]) (Eq.symm (ovg_self e_g_pails)))) rfl rfl
  have hS : va_S (gA G) s.heap s.heap [] := va_S.rf
  have hend : ∀ (pc : Nat) (H : Heap) (locs : List Loc) (ls : Array Slot), decode cX10_ticks pc = .ok (.return_, 1) → RS G K (ov I [(703, o, out.1), (704, o, out.2.1), (714, o, out.2.2.1), (715, o, out.2.2.2.1), (716, o, out.2.2.2.2.1), (717, o, out.2.2.2.2.2.1), (718, o, out.2.2.2.2.2.2.1)]) J X (ova (ovg A (o + 9) 12 out.2.2.2.2.2.2.2.2.2.2.2.2.2.2) [((o + 1), a_men), ((o + 2), out.2.2.2.2.2.2.2.1), ((o + 3), out.2.2.2.2.2.2.2.2.1), ((o + 4), out.2.2.2.2.2.2.2.2.2.1), ((o + 5), out.2.2.2.2.2.2.2.2.2.2.1), ((o + 6), out.2.2.2.2.2.2.2.2.2.2.2.1), ((o + 7), out.2.2.2.2.2.2.2.2.2.2.2.2.1), ((o + 21), out.2.2.2.2.2.2.2.2.2.2.2.2.2.1)]) B Q H → va_S (gA G) s.heap H locs → W p l e ({ frames := 3, cells := 0, slots := 0, locals := 64 } : Room) s m ([.ref o] : List Value).toArray below meth c H locs 0 0 (MQ below (gQ G none K (ov I [(703, o, out.1), (704, o, out.2.1), (714, o, out.2.2.1), (715, o, out.2.2.2.1), (716, o, out.2.2.2.2.1), (717, o, out.2.2.2.2.2.1), (718, o, out.2.2.2.2.2.2.1)]) J X (ova (ovg A (o + 9) 12 out.2.2.2.2.2.2.2.2.2.2.2.2.2.2) [((o + 1), a_men), ((o + 2), out.2.2.2.2.2.2.2.1), ((o + 3), out.2.2.2.2.2.2.2.2.1), ((o + 4), out.2.2.2.2.2.2.2.2.2.1), ((o + 5), out.2.2.2.2.2.2.2.2.2.2.1), ((o + 6), out.2.2.2.2.2.2.2.2.2.2.2.1), ((o + 7), out.2.2.2.2.2.2.2.2.2.2.2.2.1), ((o + 21), out.2.2.2.2.2.2.2.2.2.2.2.2.2.1)]) B Q) ([.ref o] : List Value).toArray s 0 0 (gA G)) (F0 m pc ls []) := fun pc H locs ls hd hR hS => g_vret hx hb hr hlocks hG hR hS rfl hd
  generalize MQ below (gQ G none K (ov I [(703, o, out.1), (704, o, out.2.1), (714, o, out.2.2.1), (715, o, out.2.2.2.1), (716, o, out.2.2.2.2.1), (717, o, out.2.2.2.2.2.1), (718, o, out.2.2.2.2.2.2.1)]) J X (ova (ovg A (o + 9) 12 out.2.2.2.2.2.2.2.2.2.2.2.2.2.2) [((o + 1), a_men), ((o + 2), out.2.2.2.2.2.2.2.1), ((o + 3), out.2.2.2.2.2.2.2.2.1), ((o + 4), out.2.2.2.2.2.2.2.2.2.1), ((o + 5), out.2.2.2.2.2.2.2.2.2.2.1), ((o + 6), out.2.2.2.2.2.2.2.2.2.2.2.1), ((o + 7), out.2.2.2.2.2.2.2.2.2.2.2.2.1), ((o + 21), out.2.2.2.2.2.2.2.2.2.2.2.2.2.1)]) B Q) ([.ref o] : List Value).toArray s 0 0 (gA G) = Z at hend ⊢
  generalize ([.ref o] : List Value).toArray = args at hts hend ⊢
  unfold f10_ticks at hf
  obtain ⟨rl1, hw1, hfo1⟩ := bind_s hf
  have hx1_0 : ∀ (x1_0 : Int32 × Int32 × Int32), f10_ticks_e1_0 i_y_way i_y_hold i_y_draw i_y_spill i_y_back i_y_thrown i_many i_water i_thrown i_tick i_drawn i_spilt a_men a_done a_busy a_litres a_stands a_first a_heaps a_backs q_y_men mi_hand mi_power g_pails x1_0 = some out → ∀ (H : Heap) (locs : List Loc) (ls : Array Slot), RS G K (ov I [(703, o, i_water), (704, o, i_thrown), (714, o, x1_0.1), (715, o, x1_0.2.1), (716, o, x1_0.2.2), (717, o, i_drawn), (718, o, i_spilt)]) J X (ova (ovg A (o + 9) 12 g_pails) [((o + 1), a_men), ((o + 2), a_done), ((o + 3), a_busy), ((o + 4), a_litres), ((o + 5), a_stands), ((o + 6), a_first), ((o + 7), a_heaps), ((o + 21), a_backs)]) B Q H → va_S (gA G) s.heap H locs → lv_has ls 2 [(0, .ref o)] → W p l e ({ frames := 3, cells := 0, slots := 0, locals := 64 } : Room) s m args below meth c H locs 0 0 Z (F0 m 59 ls []) := by
    intro x1_0 hf H locs ls hR hS hl
    unfold f10_ticks_e1_0 at hf
    refine lv_aload_n hx hb dX10_ticks_59 rfl (lv_at hl 0 rfl) ?_
    refine n_geti (v := i_many) hx hb hts hown hG hR gFi_X10_69_7 sh_o.1 ((congrFun (ov_no rfl) _).trans e_i_many) dX10_ticks_60 ?_
    refine lv_iconst (v := 1) hx hb dX10_ticks_63 li_1 ?_
    obtain ⟨v2, ev2, hf⟩ := lt_some hf
    refine n_isub hx hb ev2 dX10_ticks_64 ?_
    refine lv_istore_n (lv' := [(1, .int v2), (0, .ref o)]) hx hb dX10_ticks_65 rfl hl (by decide) rfl (fun ls hl => ?_)
    obtain ⟨rl3, hw3, hfo3⟩ := bind_s hf
    have hx3_0 : ∀ (x3_0 : Int32 × Int32 × Int32 × Int32 × Int32 × Int32 × (Nat → Int32) × (Nat → Int32) × (Nat → Int32) × (Nat → Int32) × (Nat → Int32) × (Nat → Int32) × (Nat → Nat → Int32)), f10_ticks_e3_0 i_many a_heaps x1_0 x3_0 = some out → ∀ (H : Heap) (locs : List Loc) (ls : Array Slot), RS G K (ov I [(703, o, x3_0.1), (704, o, x3_0.2.1), (714, o, x3_0.2.2.1), (715, o, x1_0.2.1), (716, o, x3_0.2.2.2.1), (717, o, x3_0.2.2.2.2.1), (718, o, x3_0.2.2.2.2.2.1)]) J X (ova (ovg A (o + 9) 12 x3_0.2.2.2.2.2.2.2.2.2.2.2.2) [((o + 1), a_men), ((o + 2), x3_0.2.2.2.2.2.2.1), ((o + 3), x3_0.2.2.2.2.2.2.2.1), ((o + 4), x3_0.2.2.2.2.2.2.2.2.1), ((o + 5), x3_0.2.2.2.2.2.2.2.2.2.1), ((o + 6), x3_0.2.2.2.2.2.2.2.2.2.2.1), ((o + 7), a_heaps), ((o + 21), x3_0.2.2.2.2.2.2.2.2.2.2.2.1)]) B Q H → va_S (gA G) s.heap H locs → lv_has ls 2 [(0, .ref o)] → W p l e ({ frames := 3, cells := 0, slots := 0, locals := 64 } : Room) s m args below meth c H locs 0 0 Z (F0 m 153 ls []) := by
      intro x3_0 hf H locs ls hR hS hl
      unfold f10_ticks_e3_0 at hf
      refine lv_iconst (v := 1) hx hb dX10_ticks_153 li_1 ?_
      refine lv_istore_n (lv' := [(1, .int (1 : Int32)), (0, .ref o)]) hx hb dX10_ticks_154 rfl hl (by decide) rfl (fun ls hl => ?_)
      obtain ⟨rl4, hw4, hfo4⟩ := bind_s hf
      have hx4_0 : ∀ (x4_0 : Int32 × Int32 × Int32 × Int32 × Int32 × Int32 × Int32 × (Nat → Int32) × (Nat → Int32) × (Nat → Int32) × (Nat → Int32) × (Nat → Int32) × (Nat → Int32) × (Nat → Int32) × (Nat → Nat → Int32)), f10_ticks_e4_0 x4_0 = some out → ∀ (pc : Nat) (H : Heap) (locs : List Loc) (ls : Array Slot), decode cX10_ticks pc = .ok (.return_, 1) → RS G K (ov I [(703, o, x4_0.1), (704, o, x4_0.2.1), (714, o, x4_0.2.2.1), (715, o, x4_0.2.2.2.1), (716, o, x4_0.2.2.2.2.1), (717, o, x4_0.2.2.2.2.2.1), (718, o, x4_0.2.2.2.2.2.2.1)]) J X (ova (ovg A (o + 9) 12 x4_0.2.2.2.2.2.2.2.2.2.2.2.2.2.2) [((o + 1), a_men), ((o + 2), x4_0.2.2.2.2.2.2.2.1), ((o + 3), x4_0.2.2.2.2.2.2.2.2.1), ((o + 4), x4_0.2.2.2.2.2.2.2.2.2.1), ((o + 5), x4_0.2.2.2.2.2.2.2.2.2.2.1), ((o + 6), x4_0.2.2.2.2.2.2.2.2.2.2.2.1), ((o + 7), x4_0.2.2.2.2.2.2.2.2.2.2.2.2.1), ((o + 21), x4_0.2.2.2.2.2.2.2.2.2.2.2.2.2.1)]) B Q H → va_S (gA G) s.heap H locs → W p l e ({ frames := 3, cells := 0, slots := 0, locals := 64 } : Room) s m args below meth c H locs 0 0 Z (F0 m pc ls []) := by
        intro x4_0 hf pc H locs ls hd hR hS
        unfold f10_ticks_e4_0 at hf
        obtain rfl := some_i hf
        exact hend _ _ _ _ hd hR hS
      refine whl_walk (P := fun (s4 : Int32 × (Nat → Int32)) => ∀ (H : Heap) (locs : List Loc) (ls : Array Slot), RS G K (ov I [(703, o, x3_0.1), (704, o, x3_0.2.1), (714, o, x3_0.2.2.1), (715, o, x1_0.2.1), (716, o, x3_0.2.2.2.1), (717, o, x3_0.2.2.2.2.1), (718, o, x3_0.2.2.2.2.2.1)]) J X (ova (ovg A (o + 9) 12 x3_0.2.2.2.2.2.2.2.2.2.2.2.2) [((o + 1), a_men), ((o + 2), x3_0.2.2.2.2.2.2.1), ((o + 3), x3_0.2.2.2.2.2.2.2.1), ((o + 4), x3_0.2.2.2.2.2.2.2.2.1), ((o + 5), x3_0.2.2.2.2.2.2.2.2.2.1), ((o + 6), x3_0.2.2.2.2.2.2.2.2.2.2.1), ((o + 7), s4.2), ((o + 21), x3_0.2.2.2.2.2.2.2.2.2.2.2.1)]) B Q H → va_S (gA G) s.heap H locs → lv_has ls 2 [(0, .ref o), (1, .int s4.1)] → W p l e ({ frames := 3, cells := 0, slots := 0, locals := 64 } : Room) s m args below meth c H locs 0 0 Z (F0 m 155 ls [])) (r := rl4) ?_ FU _ hw4 _ _ _ hR hS (lv_sub hl [1, 0] rfl)
      clear hR hS hl hf
      intro s4 o4 hf hk4 H locs ls hR hS hl
      obtain ⟨w4_1, w4_a_heaps⟩ := s4
      have hf : f10_ticks_s4 i_many x1_0 x3_0 w4_1 w4_a_heaps = some o4 := hf
      have hR : RS G K (ov I [(703, o, x3_0.1), (704, o, x3_0.2.1), (714, o, x3_0.2.2.1), (715, o, x1_0.2.1), (716, o, x3_0.2.2.2.1), (717, o, x3_0.2.2.2.2.1), (718, o, x3_0.2.2.2.2.2.1)]) J X (ova (ovg A (o + 9) 12 x3_0.2.2.2.2.2.2.2.2.2.2.2.2) [((o + 1), a_men), ((o + 2), x3_0.2.2.2.2.2.2.1), ((o + 3), x3_0.2.2.2.2.2.2.2.1), ((o + 4), x3_0.2.2.2.2.2.2.2.2.1), ((o + 5), x3_0.2.2.2.2.2.2.2.2.2.1), ((o + 6), x3_0.2.2.2.2.2.2.2.2.2.2.1), ((o + 7), w4_a_heaps), ((o + 21), x3_0.2.2.2.2.2.2.2.2.2.2.2.1)]) B Q H := hR
      have hl : lv_has ls 2 [(0, .ref o), (1, .int w4_1)] := hl
      unfold f10_ticks_s4 at hf
      refine lv_iload_n hx hb dX10_ticks_155 rfl (lv_at hl 1 rfl) ?_
      refine lv_aload_n hx hb dX10_ticks_156 rfl (lv_at hl 0 rfl) ?_
      refine n_geti (v := i_many) hx hb hts hown hG hR gFi_X10_69_7 sh_o.1 ((congrFun (ov_no rfl) _).trans e_i_many) dX10_ticks_157 ?_
      refine lv_icmp_ge (tgt := 190) hx hb dX10_ticks_160 (by decide) (fun c5 => ?_) (fun c5 => ?_)
      · have hf := ite_t c5 hf
        obtain rfl := some_i hf
        replace hk4 : _ = rl4 := hk4
        subst hk4
        exact hx4_0 (x3_0.1, x3_0.2.1, x3_0.2.2.1, x1_0.2.1, x3_0.2.2.2.1, x3_0.2.2.2.2.1, x3_0.2.2.2.2.2.1, x3_0.2.2.2.2.2.2.1, x3_0.2.2.2.2.2.2.2.1, x3_0.2.2.2.2.2.2.2.2.1, x3_0.2.2.2.2.2.2.2.2.2.1, x3_0.2.2.2.2.2.2.2.2.2.2.1, w4_a_heaps, x3_0.2.2.2.2.2.2.2.2.2.2.2.1, x3_0.2.2.2.2.2.2.2.2.2.2.2.2) hfo4 _ _ _ _ dX10_ticks_190 hR hS
      · have hf := ite_f c5 hf
        refine lv_aload_n hx hb dX10_ticks_163 rfl (lv_at hl 0 rfl) ?_
        refine g_getr (b := (o + 7)) hx hb hts hown hG hR gFx_X10_27_7 sh_o.1 ((sh_o.2 6 _ rfl).2) dX10_ticks_164 ?_
        refine lv_iload_n hx hb dX10_ticks_167 rfl (lv_at hl 1 rfl) ?_
        refine lv_aload_n hx hb dX10_ticks_168 rfl (lv_at hl 0 rfl) ?_
        refine g_getr (b := (o + 7)) hx hb hts hown hG hR gFx_X10_27_7 sh_o.1 ((sh_o.2 6 _ rfl).2) dX10_ticks_169 ?_
        refine lv_iload_n hx hb dX10_ticks_172 rfl (lv_at hl 1 rfl) ?_
        obtain ⟨c6, hf⟩ := gd_some hf
        obtain ⟨v7, ev7, hf⟩ := lt_some hf
        refine n_iald (x := w4_a_heaps) hx hb hG hR k_a_heaps c6 (ova_get 6 hN_A rfl) ev7 dX10_ticks_173 ?_
        refine lv_aload_n hx hb dX10_ticks_174 rfl (lv_at hl 0 rfl) ?_
        refine g_getr (b := (o + 5)) hx hb hts hown hG hR gFx_X10_21_7 sh_o.1 ((sh_o.2 4 _ rfl).2) dX10_ticks_175 ?_
        refine lv_iload_n hx hb dX10_ticks_178 rfl (lv_at hl 1 rfl) ?_
        obtain ⟨c8, hf⟩ := gd_some hf
        obtain ⟨v9, ev9, hf⟩ := lt_some hf
        refine n_iald (x := x3_0.2.2.2.2.2.2.2.2.2.1) hx hb hG hR k_a_stands c8 (ova_get 4 hN_A rfl) ev9 dX10_ticks_179 ?_
        obtain ⟨v10, ev10, hf⟩ := lt_some hf
        refine n_mmax hx hb (hml.trans hl.1.symm) hown (hts _ q1185) (hts _ q1186) (hts _ q127) (hts _ q1187) (Nat.le_of_ble_eq_true rfl) (Nat.le_of_ble_eq_true rfl) (Nat.le_refl _) (Nat.le_refl _) ev10 dX10_ticks_180 ?_
        obtain ⟨c11, hf⟩ := gd_some hf
        obtain ⟨u12, eu12, hf⟩ := lt_some hf
        refine n_iast (la' := [((o + 1), a_men), ((o + 2), x3_0.2.2.2.2.2.2.1), ((o + 3), x3_0.2.2.2.2.2.2.2.1), ((o + 4), x3_0.2.2.2.2.2.2.2.2.1), ((o + 5), x3_0.2.2.2.2.2.2.2.2.2.1), ((o + 6), x3_0.2.2.2.2.2.2.2.2.2.2.1), ((o + 7), u12), ((o + 21), x3_0.2.2.2.2.2.2.2.2.2.2.2.1)]) hx hb hG hR hS k_a_heaps c11 hN_A 6 rfl eu12 rfl dX10_ticks_183 (fun H locs hR hS => ?_)
        obtain ⟨v13, ev13, hf⟩ := lt_some hf
        refine lv_iinc (k := 1) (v := v13) (lv' := [(1, .int v13), (0, .ref o)]) hx hb dX10_ticks_184 hl rfl (by rw [ev13]; rfl) (by decide) rfl (fun ls hl => ?_)
        refine lv_goto (tgt := 155) hx hb dX10_ticks_187 (by decide) ?_
        obtain rfl := some_i hf
        exact hk4 _ _ _ hR hS (lv_sub hl [1, 0] rfl)
    refine whl_walk (P := fun (s3 : Int32 × Int32 × Int32 × Int32 × Int32 × Int32 × Int32 × (Nat → Int32) × (Nat → Int32) × (Nat → Int32) × (Nat → Int32) × (Nat → Int32) × (Nat → Int32) × (Nat → Nat → Int32)) => ∀ (H : Heap) (locs : List Loc) (ls : Array Slot), RS G K (ov I [(703, o, s3.2.1), (704, o, s3.2.2.1), (714, o, s3.2.2.2.1), (715, o, x1_0.2.1), (716, o, s3.2.2.2.2.1), (717, o, s3.2.2.2.2.2.1), (718, o, s3.2.2.2.2.2.2.1)]) J X (ova (ovg A (o + 9) 12 s3.2.2.2.2.2.2.2.2.2.2.2.2.2) [((o + 1), a_men), ((o + 2), s3.2.2.2.2.2.2.2.1), ((o + 3), s3.2.2.2.2.2.2.2.2.1), ((o + 4), s3.2.2.2.2.2.2.2.2.2.1), ((o + 5), s3.2.2.2.2.2.2.2.2.2.2.1), ((o + 6), s3.2.2.2.2.2.2.2.2.2.2.2.1), ((o + 7), a_heaps), ((o + 21), s3.2.2.2.2.2.2.2.2.2.2.2.2.1)]) B Q H → va_S (gA G) s.heap H locs → lv_has ls 2 [(0, .ref o), (1, .int s3.1)] → W p l e ({ frames := 3, cells := 0, slots := 0, locals := 64 } : Room) s m args below meth c H locs 0 0 Z (F0 m 66 ls [])) (r := rl3) ?_ FU _ hw3 _ _ _ hR hS (lv_sub hl [1, 0] rfl)
    clear hR hS hl hf
    intro s3 o3 hf hk3 H locs ls hR hS hl
    obtain ⟨w3_1, w3_i_water, w3_i_thrown, w3_i_empties, w3_i_backMany, w3_i_drawn, w3_i_spilt, w3_a_done, w3_a_busy, w3_a_litres, w3_a_stands, w3_a_first, w3_a_backs, w3_g_pails⟩ := s3
    have hf : f10_ticks_s3 i_y_way i_y_hold i_y_draw i_y_spill i_y_back i_y_thrown i_many i_tick a_men q_y_men mi_hand mi_power x1_0 w3_1 w3_i_water w3_i_thrown w3_i_empties w3_i_backMany w3_i_drawn w3_i_spilt w3_a_done w3_a_busy w3_a_litres w3_a_stands w3_a_first w3_a_backs w3_g_pails = some o3 := hf
    have hR : RS G K (ov I [(703, o, w3_i_water), (704, o, w3_i_thrown), (714, o, w3_i_empties), (715, o, x1_0.2.1), (716, o, w3_i_backMany), (717, o, w3_i_drawn), (718, o, w3_i_spilt)]) J X (ova (ovg A (o + 9) 12 w3_g_pails) [((o + 1), a_men), ((o + 2), w3_a_done), ((o + 3), w3_a_busy), ((o + 4), w3_a_litres), ((o + 5), w3_a_stands), ((o + 6), w3_a_first), ((o + 7), a_heaps), ((o + 21), w3_a_backs)]) B Q H := hR
    have hl : lv_has ls 2 [(0, .ref o), (1, .int w3_1)] := hl
    unfold f10_ticks_s3 at hf
    refine lv_iload_n hx hb dX10_ticks_66 rfl (lv_at hl 1 rfl) ?_
    refine lv_if_lt (tgt := 153) hx hb dX10_ticks_67 (by decide) (fun c14 => ?_) (fun c14 => ?_)
    · have hf := ite_t c14 hf
      obtain rfl := some_i hf
      replace hk3 : _ = rl3 := hk3
      subst hk3
      exact hx3_0 (w3_i_water, w3_i_thrown, w3_i_empties, w3_i_backMany, w3_i_drawn, w3_i_spilt, w3_a_done, w3_a_busy, w3_a_litres, w3_a_stands, w3_a_first, w3_a_backs, w3_g_pails) hfo3 _ _ _ hR hS (lv_sub hl [0] rfl)
    · have hf := ite_f c14 hf
      refine lv_aload_n hx hb dX10_ticks_70 rfl (lv_at hl 0 rfl) ?_
      refine g_getr (b := (o + 3)) hx hb hts hown hG hR gFx_X10_15_7 sh_o.1 ((sh_o.2 2 _ rfl).2) dX10_ticks_71 ?_
      refine lv_iload_n hx hb dX10_ticks_74 rfl (lv_at hl 1 rfl) ?_
      obtain ⟨c15, hf⟩ := gd_some hf
      obtain ⟨v16, ev16, hf⟩ := lt_some hf
      refine n_iald (x := w3_a_busy) hx hb hG hR k_a_busy c15 (ova_get 2 hN_A rfl) ev16 dX10_ticks_75 ?_
      have hj103 : ∀ (j103_i_thrown : Int32) (j103_i_backMany : Int32) (j103_i_spilt : Int32) (j103_a_done : Nat → Int32) (j103_a_busy : Nat → Int32) (j103_a_stands : Nat → Int32) (j103_a_backs : Nat → Int32) (j103_g_pails : Nat → Nat → Int32), f10_ticks_j103 i_y_way i_y_hold i_y_draw i_y_thrown i_many a_men q_y_men mi_hand mi_power w3_1 w3_i_water w3_i_empties w3_i_drawn w3_a_litres w3_a_first j103_i_thrown j103_i_backMany j103_i_spilt j103_a_done j103_a_busy j103_a_stands j103_a_backs j103_g_pails = some o3 → ∀ (H : Heap) (locs : List Loc) (ls : Array Slot), RS G K (ov I [(703, o, w3_i_water), (704, o, j103_i_thrown), (714, o, w3_i_empties), (715, o, x1_0.2.1), (716, o, j103_i_backMany), (717, o, w3_i_drawn), (718, o, j103_i_spilt)]) J X (ova (ovg A (o + 9) 12 j103_g_pails) [((o + 1), a_men), ((o + 2), j103_a_done), ((o + 3), j103_a_busy), ((o + 4), w3_a_litres), ((o + 5), j103_a_stands), ((o + 6), w3_a_first), ((o + 7), a_heaps), ((o + 21), j103_a_backs)]) B Q H → va_S (gA G) s.heap H locs → lv_has ls 2 [(0, .ref o), (1, .int w3_1)] → W p l e ({ frames := 3, cells := 0, slots := 0, locals := 64 } : Room) s m args below meth c H locs 0 0 Z (F0 m 103 ls []) := by
        intro j103_i_thrown j103_i_backMany j103_i_spilt j103_a_done j103_a_busy j103_a_stands j103_a_backs j103_g_pails hf H locs ls hR hS hl
        unfold f10_ticks_j103 at hf
        refine lv_aload_n hx hb dX10_ticks_103 rfl (lv_at hl 0 rfl) ?_
        refine g_getr (b := (o + 3)) hx hb hts hown hG hR gFx_X10_15_7 sh_o.1 ((sh_o.2 2 _ rfl).2) dX10_ticks_104 ?_
        refine lv_iload_n hx hb dX10_ticks_107 rfl (lv_at hl 1 rfl) ?_
        obtain ⟨c17, hf⟩ := gd_some hf
        obtain ⟨v18, ev18, hf⟩ := lt_some hf
        refine n_iald (x := j103_a_busy) hx hb hG hR k_a_busy c17 (ova_get 2 hN_A rfl) ev18 dX10_ticks_108 ?_
        have hj147 : ∀ (j147_i_water : Int32) (j147_i_empties : Int32) (j147_i_drawn : Int32) (j147_a_busy : Nat → Int32) (j147_a_litres : Nat → Int32) (j147_a_stands : Nat → Int32) (j147_a_first : Nat → Int32), f10_ticks_j147 w3_1 j103_i_thrown j103_i_backMany j103_i_spilt j103_a_done j103_a_backs j103_g_pails j147_i_water j147_i_empties j147_i_drawn j147_a_busy j147_a_litres j147_a_stands j147_a_first = some o3 → ∀ (H : Heap) (locs : List Loc) (ls : Array Slot), RS G K (ov I [(703, o, j147_i_water), (704, o, j103_i_thrown), (714, o, j147_i_empties), (715, o, x1_0.2.1), (716, o, j103_i_backMany), (717, o, j147_i_drawn), (718, o, j103_i_spilt)]) J X (ova (ovg A (o + 9) 12 j103_g_pails) [((o + 1), a_men), ((o + 2), j103_a_done), ((o + 3), j147_a_busy), ((o + 4), j147_a_litres), ((o + 5), j147_a_stands), ((o + 6), j147_a_first), ((o + 7), a_heaps), ((o + 21), j103_a_backs)]) B Q H → va_S (gA G) s.heap H locs → lv_has ls 2 [(0, .ref o), (1, .int w3_1)] → W p l e ({ frames := 3, cells := 0, slots := 0, locals := 64 } : Room) s m args below meth c H locs 0 0 Z (F0 m 147 ls []) := by
          intro j147_i_water j147_i_empties j147_i_drawn j147_a_busy j147_a_litres j147_a_stands j147_a_first hf H locs ls hR hS hl
          unfold f10_ticks_j147 at hf
          obtain ⟨v19, ev19, hf⟩ := lt_some hf
          refine lv_iinc (k := 1) (v := v19) (lv' := [(1, .int v19), (0, .ref o)]) hx hb dX10_ticks_147 hl rfl (by rw [ev19]; rfl) (by decide) rfl (fun ls hl => ?_)
          refine lv_goto (tgt := 66) hx hb dX10_ticks_150 (by decide) ?_
          obtain rfl := some_i hf
          exact hk3 _ _ _ hR hS (lv_sub hl [1, 0] rfl)
        refine lv_if_ne (tgt := 147) hx hb dX10_ticks_109 (by decide) (fun c20 => ?_) (fun c20 => ?_)
        · have hf := ite_f c20 hf
          exact hj147 w3_i_water w3_i_empties w3_i_drawn j103_a_busy w3_a_litres j103_a_stands w3_a_first hf _ _ _ hR hS (lv_sub hl [0, 1] rfl)
        · have hf := ite_t c20 hf
          refine lv_iload_n hx hb dX10_ticks_112 rfl (lv_at hl 1 rfl) ?_
          have hj142 : ∀ (_ : Unit), f10_ticks_j142 i_y_way i_y_hold i_y_draw i_y_thrown i_many a_men q_y_men mi_hand mi_power w3_1 w3_i_water w3_i_empties w3_i_drawn w3_a_litres w3_a_first j103_i_thrown j103_i_backMany j103_i_spilt j103_a_done j103_a_busy j103_a_stands j103_a_backs j103_g_pails = some o3 → ∀ (H : Heap) (locs : List Loc) (ls : Array Slot), RS G K (ov I [(703, o, w3_i_water), (704, o, j103_i_thrown), (714, o, w3_i_empties), (715, o, x1_0.2.1), (716, o, j103_i_backMany), (717, o, w3_i_drawn), (718, o, j103_i_spilt)]) J X (ova (ovg A (o + 9) 12 j103_g_pails) [((o + 1), a_men), ((o + 2), j103_a_done), ((o + 3), j103_a_busy), ((o + 4), w3_a_litres), ((o + 5), j103_a_stands), ((o + 6), w3_a_first), ((o + 7), a_heaps), ((o + 21), j103_a_backs)]) B Q H → va_S (gA G) s.heap H locs → lv_has ls 2 [(0, .ref o), (1, .int w3_1)] → W p l e ({ frames := 3, cells := 0, slots := 0, locals := 64 } : Room) s m args below meth c H locs 0 0 Z (F0 m 142 ls []) := by
            intro _ hf H locs ls hR hS hl
            unfold f10_ticks_j142 at hf
            refine lv_aload_n hx hb dX10_ticks_142 rfl (lv_at hl 0 rfl) ?_
            refine lv_iload_n hx hb dX10_ticks_143 rfl (lv_at hl 1 rfl) ?_
            obtain ⟨rr21, hrr21, hf⟩ := bind_s hf
            refine g0_cVv (rm := (2, 43)) (As := [.int w3_1]) (rest := []) ⟨hx, hb, hml, hown, hts⟩ hG hR hS (m10_starts l G K (ov I [(703, o, w3_i_water), (704, o, j103_i_thrown), (714, o, w3_i_empties), (715, o, x1_0.2.1), (716, o, j103_i_backMany), (717, o, w3_i_drawn), (718, o, j103_i_spilt)]) J X (ova (ovg A (o + 9) 12 j103_g_pails) [((o + 1), a_men), ((o + 2), j103_a_done), ((o + 3), j103_a_busy), ((o + 4), w3_a_litres), ((o + 5), j103_a_stands), ((o + 6), w3_a_first), ((o + 7), a_heaps), ((o + 21), j103_a_backs)]) B Q o y sh_o sh_y x_o_yard shG w3_1 i_y_way i_y_hold i_y_draw i_y_thrown i_many w3_i_water w3_i_empties w3_i_drawn a_men j103_a_done j103_a_busy w3_a_litres j103_a_stands w3_a_first q_y_men mi_hand mi_power j103_g_pails ((congrFun (ov_no rfl) _).trans e_i_y_way) ((congrFun (ov_no rfl) _).trans e_i_y_hold) ((congrFun (ov_no rfl) _).trans e_i_y_draw) ((congrFun (ov_no rfl) _).trans e_i_y_thrown) ((congrFun (ov_no rfl) _).trans e_i_many) (ov_get 0 rfl rfl) (ov_get 2 rfl rfl) (ov_get 5 rfl rfl) (ova_get 0 hN_A rfl) (ova_get 1 hN_A rfl) (ova_get 2 hN_A rfl) (ova_get 3 hN_A rfl) (ova_get 4 hN_A rfl) (ova_get 5 hN_A rfl) e_q_y_men ((ov_no rfl).trans e_mi_hand) ((ov_no rfl).trans e_mi_power) (fun j hj => (ova_no (by show o + 9 + j ∉ [(o + 1), (o + 2), (o + 3), (o + 4), (o + 5), (o + 6), (o + 7), (o + 21)]; simp only [List.mem_cons, List.not_mem_nil, or_false, not_or]; omega)).trans (ovg_get hj)) hman rr21 hrr21) (cwV 1 hts gi_X10_110 rfl rfl rfl hd_X10_starts ⟨Nat.le_of_ble_eq_true rfl, Nat.le_of_ble_eq_true rfl⟩) sh_o.1 rfl rfl hl.1 (Nat.le_of_ble_eq_true rfl) dX10_ticks_144 ⟨Nat.le_refl _, Nat.le_refl _⟩ rfl (fun H locs hR hS => ?_)
            have hR : RS G K (ov I [(703, o, rr21.1), (704, o, j103_i_thrown), (714, o, rr21.2.1), (715, o, x1_0.2.1), (716, o, j103_i_backMany), (717, o, rr21.2.2.1), (718, o, j103_i_spilt)]) J X (ova (ovg A (o + 9) 12 j103_g_pails) [((o + 1), a_men), ((o + 2), j103_a_done), ((o + 3), rr21.2.2.2.1), ((o + 4), rr21.2.2.2.2.1), ((o + 5), rr21.2.2.2.2.2.1), ((o + 6), rr21.2.2.2.2.2.2), ((o + 7), a_heaps), ((o + 21), j103_a_backs)]) B Q H := hR.to (ov_merge (l := [(703, o, w3_i_water), (704, o, j103_i_thrown), (714, o, w3_i_empties), (715, o, x1_0.2.1), (716, o, j103_i_backMany), (717, o, w3_i_drawn), (718, o, j103_i_spilt)]) rfl [0, 2, 5] [(703, o, rr21.1), (714, o, rr21.2.1), (717, o, rr21.2.2.1)] rfl rfl) rfl rfl (ova_merge (l := [((o + 1), a_men), ((o + 2), j103_a_done), ((o + 3), j103_a_busy), ((o + 4), w3_a_litres), ((o + 5), j103_a_stands), ((o + 6), w3_a_first), ((o + 7), a_heaps), ((o + 21), j103_a_backs)]) hN_A [0, 1, 2, 3, 4, 5] [((o + 1), a_men), ((o + 2), j103_a_done), ((o + 3), rr21.2.2.2.1), ((o + 4), rr21.2.2.2.2.1), ((o + 5), rr21.2.2.2.2.2.1), ((o + 6), rr21.2.2.2.2.2.2)] rfl rfl) rfl rfl
            exact hj147 rr21.1 rr21.2.1 rr21.2.2.1 rr21.2.2.2.1 rr21.2.2.2.2.1 rr21.2.2.2.2.2.1 rr21.2.2.2.2.2.2 hf _ _ _ hR hS (lv_sub hl [0, 1] rfl)
          refine lv_if_ne (tgt := 133) hx hb dX10_ticks_113 (by decide) (fun c22 => ?_) (fun c22 => ?_)
          · have hf := ite_f c22 hf
            refine lv_aload_n hx hb dX10_ticks_133 rfl (lv_at hl 0 rfl) ?_
            refine g_getr (b := (o + 5)) hx hb hts hown hG hR gFx_X10_21_7 sh_o.1 ((sh_o.2 4 _ rfl).2) dX10_ticks_134 ?_
            refine lv_iload_n hx hb dX10_ticks_137 rfl (lv_at hl 1 rfl) ?_
            obtain ⟨c23, hf⟩ := gd_some hf
            obtain ⟨v24, ev24, hf⟩ := lt_some hf
            refine n_iald (x := j103_a_stands) hx hb hG hR k_a_stands c23 (ova_get 4 hN_A rfl) ev24 dX10_ticks_138 ?_
            refine lv_if_le (tgt := 147) hx hb dX10_ticks_139 (by decide) (fun c25 => ?_) (fun c25 => ?_)
            · have hf := ite_t c25 hf
              exact hj147 w3_i_water w3_i_empties w3_i_drawn j103_a_busy w3_a_litres j103_a_stands w3_a_first hf _ _ _ hR hS (lv_sub hl [0, 1] rfl)
            · have hf := ite_f c25 hf
              exact hj142 () hf _ _ _ hR hS (lv_sub hl [0, 1] rfl)
          · have hf := ite_t c22 hf
            refine lv_aload_n hx hb dX10_ticks_116 rfl (lv_at hl 0 rfl) ?_
            refine n_geti (v := w3_i_empties) hx hb hts hown hG hR gFi_X10_47_7 sh_o.1 (ov_get 2 rfl rfl) dX10_ticks_117 ?_
            refine lv_if_le (tgt := 147) hx hb dX10_ticks_120 (by decide) (fun c26 => ?_) (fun c26 => ?_)
            · have hf := ite_t c26 hf
              exact hj147 w3_i_water w3_i_empties w3_i_drawn j103_a_busy w3_a_litres j103_a_stands w3_a_first hf _ _ _ hR hS (lv_sub hl [0, 1] rfl)
            · have hf := ite_f c26 hf
              refine lv_aload_n hx hb dX10_ticks_123 rfl (lv_at hl 0 rfl) ?_
              refine n_geti (v := w3_i_water) hx hb hts hown hG hR gFi_X10_107_7 sh_o.1 (ov_get 0 rfl rfl) dX10_ticks_124 ?_
              refine lv_if_le (tgt := 147) hx hb dX10_ticks_127 (by decide) (fun c27 => ?_) (fun c27 => ?_)
              · have hf := ite_t c27 hf
                exact hj147 w3_i_water w3_i_empties w3_i_drawn j103_a_busy w3_a_litres j103_a_stands w3_a_first hf _ _ _ hR hS (lv_sub hl [0, 1] rfl)
              · have hf := ite_f c27 hf
                refine lv_goto (tgt := 142) hx hb dX10_ticks_130 (by decide) ?_
                exact hj142 () hf _ _ _ hR hS (lv_sub hl [0, 1] rfl)
      refine lv_if_le (tgt := 103) hx hb dX10_ticks_76 (by decide) (fun c28 => ?_) (fun c28 => ?_)
      · have hf := ite_t c28 hf
        exact hj103 w3_i_thrown w3_i_backMany w3_i_spilt w3_a_done w3_a_busy w3_a_stands w3_a_backs w3_g_pails hf _ _ _ hR hS (lv_sub hl [0, 1] rfl)
      · have hf := ite_f c28 hf
        refine lv_aload_n hx hb dX10_ticks_79 rfl (lv_at hl 0 rfl) ?_
        refine g_getr (b := (o + 3)) hx hb hts hown hG hR gFx_X10_15_7 sh_o.1 ((sh_o.2 2 _ rfl).2) dX10_ticks_80 ?_
        refine lv_iload_n hx hb dX10_ticks_83 rfl (lv_at hl 1 rfl) ?_
        refine lv_dup2_11 hx hb dX10_ticks_84 rfl rfl ?_
        obtain ⟨c29, hf⟩ := gd_some hf
        obtain ⟨v30, ev30, hf⟩ := lt_some hf
        refine n_iald (x := w3_a_busy) hx hb hG hR k_a_busy c29 (ova_get 2 hN_A rfl) ev30 dX10_ticks_85 ?_
        refine lv_iconst (v := 1) hx hb dX10_ticks_86 li_1 ?_
        obtain ⟨v31, ev31, hf⟩ := lt_some hf
        refine n_isub hx hb ev31 dX10_ticks_87 ?_
        obtain ⟨c32, hf⟩ := gd_some hf
        obtain ⟨u33, eu33, hf⟩ := lt_some hf
        refine n_iast (la' := [((o + 1), a_men), ((o + 2), w3_a_done), ((o + 3), u33), ((o + 4), w3_a_litres), ((o + 5), w3_a_stands), ((o + 6), w3_a_first), ((o + 7), a_heaps), ((o + 21), w3_a_backs)]) hx hb hG hR hS k_a_busy c32 hN_A 2 rfl eu33 rfl dX10_ticks_88 (fun H locs hR hS => ?_)
        refine lv_aload_n hx hb dX10_ticks_89 rfl (lv_at hl 0 rfl) ?_
        refine g_getr (b := (o + 3)) hx hb hts hown hG hR gFx_X10_15_7 sh_o.1 ((sh_o.2 2 _ rfl).2) dX10_ticks_90 ?_
        refine lv_iload_n hx hb dX10_ticks_93 rfl (lv_at hl 1 rfl) ?_
        obtain ⟨c34, hf⟩ := gd_some hf
        obtain ⟨v35, ev35, hf⟩ := lt_some hf
        refine n_iald (x := u33) hx hb hG hR k_a_busy c34 (ova_get 2 hN_A rfl) ev35 dX10_ticks_94 ?_
        refine lv_if_ne (tgt := 103) hx hb dX10_ticks_95 (by decide) (fun c36 => ?_) (fun c36 => ?_)
        · have hf := ite_f c36 hf
          exact hj103 w3_i_thrown w3_i_backMany w3_i_spilt w3_a_done u33 w3_a_stands w3_a_backs w3_g_pails hf _ _ _ hR hS (lv_sub hl [0, 1] rfl)
        · have hf := ite_t c36 hf
          refine lv_aload_n hx hb dX10_ticks_98 rfl (lv_at hl 0 rfl) ?_
          refine lv_iload_n hx hb dX10_ticks_99 rfl (lv_at hl 1 rfl) ?_
          obtain ⟨rr37, hrr37, hf⟩ := bind_s hf
          refine g0_cVv (rm := (0, 0)) (As := [.int w3_1]) (rest := []) ⟨hx, hb, hml, hown, hts⟩ hG hR hS (m10_ends l G K (ov I [(703, o, w3_i_water), (704, o, w3_i_thrown), (714, o, w3_i_empties), (715, o, x1_0.2.1), (716, o, w3_i_backMany), (717, o, w3_i_drawn), (718, o, w3_i_spilt)]) J X (ova (ovg A (o + 9) 12 w3_g_pails) [((o + 1), a_men), ((o + 2), w3_a_done), ((o + 3), u33), ((o + 4), w3_a_litres), ((o + 5), w3_a_stands), ((o + 6), w3_a_first), ((o + 7), a_heaps), ((o + 21), w3_a_backs)]) B Q o y sh_o sh_y x_o_yard shG w3_1 i_y_spill i_y_back i_many w3_i_thrown i_tick x1_0.2.1 w3_i_backMany w3_i_spilt w3_a_done w3_a_litres w3_a_stands w3_a_first w3_a_backs w3_g_pails ((congrFun (ov_no rfl) _).trans e_i_y_spill) ((congrFun (ov_no rfl) _).trans e_i_y_back) ((congrFun (ov_no rfl) _).trans e_i_many) (ov_get 1 rfl rfl) ((congrFun (ov_no rfl) _).trans e_i_tick) (ov_get 3 rfl rfl) (ov_get 4 rfl rfl) (ov_get 6 rfl rfl) (ova_get 1 hN_A rfl) (ova_get 3 hN_A rfl) (ova_get 4 hN_A rfl) (ova_get 5 hN_A rfl) (ova_get 7 hN_A rfl) (fun j hj => (ova_no (by show o + 9 + j ∉ [(o + 1), (o + 2), (o + 3), (o + 4), (o + 5), (o + 6), (o + 7), (o + 21)]; simp only [List.mem_cons, List.not_mem_nil, or_false, not_or]; omega)).trans (ovg_get hj)) rr37 hrr37) (cwV 1 hts gi_X10_103 rfl rfl rfl hd_X10_ends ⟨Nat.le_of_ble_eq_true rfl, Nat.le_of_ble_eq_true rfl⟩) sh_o.1 rfl rfl hl.1 (Nat.le_of_ble_eq_true rfl) dX10_ticks_100 ⟨Nat.le_refl _, Nat.le_refl _⟩ rfl (fun H locs hR hS => ?_)
          have hR : RS G K (ov I [(703, o, w3_i_water), (704, o, rr37.1), (714, o, w3_i_empties), (715, o, x1_0.2.1), (716, o, rr37.2.1), (717, o, w3_i_drawn), (718, o, rr37.2.2.1)]) J X (ova (ovg A (o + 9) 12 rr37.2.2.2.2.2.2) [((o + 1), a_men), ((o + 2), rr37.2.2.2.1), ((o + 3), u33), ((o + 4), w3_a_litres), ((o + 5), rr37.2.2.2.2.1), ((o + 6), w3_a_first), ((o + 7), a_heaps), ((o + 21), rr37.2.2.2.2.2.1)]) B Q H := hR.to (ov_merge (l := [(703, o, w3_i_water), (704, o, w3_i_thrown), (714, o, w3_i_empties), (715, o, x1_0.2.1), (716, o, w3_i_backMany), (717, o, w3_i_drawn), (718, o, w3_i_spilt)]) rfl [1, 4, 6] [(704, o, rr37.1), (716, o, rr37.2.1), (718, o, rr37.2.2.1)] rfl rfl) rfl rfl ((congrArg (fun z => ova z [((o + 2), rr37.2.2.2.1), ((o + 4), w3_a_litres), ((o + 5), rr37.2.2.2.2.1), ((o + 6), w3_a_first), ((o + 21), rr37.2.2.2.2.2.1)]) (ovg_merge (by exact List.forall_mem_cons.mpr ⟨(by show ¬ (o + 9 ≤ (o + 1) ∧ (o + 1) < o + 9 + 12); omega), List.forall_mem_cons.mpr ⟨(by show ¬ (o + 9 ≤ (o + 2) ∧ (o + 2) < o + 9 + 12); omega), List.forall_mem_cons.mpr ⟨(by show ¬ (o + 9 ≤ (o + 3) ∧ (o + 3) < o + 9 + 12); omega), List.forall_mem_cons.mpr ⟨(by show ¬ (o + 9 ≤ (o + 4) ∧ (o + 4) < o + 9 + 12); omega), List.forall_mem_cons.mpr ⟨(by show ¬ (o + 9 ≤ (o + 5) ∧ (o + 5) < o + 9 + 12); omega), List.forall_mem_cons.mpr ⟨(by show ¬ (o + 9 ≤ (o + 6) ∧ (o + 6) < o + 9 + 12); omega), List.forall_mem_cons.mpr ⟨(by show ¬ (o + 9 ≤ (o + 7) ∧ (o + 7) < o + 9 + 12); omega), List.forall_mem_cons.mpr ⟨(by show ¬ (o + 9 ≤ (o + 21) ∧ (o + 21) < o + 9 + 12); omega), fun _ h => absurd h List.not_mem_nil⟩⟩⟩⟩⟩⟩⟩⟩))).trans (ova_merge (l := [((o + 1), a_men), ((o + 2), w3_a_done), ((o + 3), u33), ((o + 4), w3_a_litres), ((o + 5), w3_a_stands), ((o + 6), w3_a_first), ((o + 7), a_heaps), ((o + 21), w3_a_backs)]) hN_A [1, 3, 4, 5, 7] [((o + 2), rr37.2.2.2.1), ((o + 4), w3_a_litres), ((o + 5), rr37.2.2.2.2.1), ((o + 6), w3_a_first), ((o + 21), rr37.2.2.2.2.2.1)] rfl rfl)) rfl rfl
          exact hj103 rr37.1 rr37.2.1 rr37.2.2.1 rr37.2.2.2.1 u33 rr37.2.2.2.2.1 rr37.2.2.2.2.2.1 rr37.2.2.2.2.2.2 hf _ _ _ hR hS (lv_sub hl [0, 1] rfl)
  refine whl_walk (P := fun (s1 : Int32 × Int32 × Int32) => ∀ (H : Heap) (locs : List Loc) (ls : Array Slot), RS G K (ov I [(703, o, i_water), (704, o, i_thrown), (714, o, s1.1), (715, o, s1.2.1), (716, o, s1.2.2), (717, o, i_drawn), (718, o, i_spilt)]) J X (ova (ovg A (o + 9) 12 g_pails) [((o + 1), a_men), ((o + 2), a_done), ((o + 3), a_busy), ((o + 4), a_litres), ((o + 5), a_stands), ((o + 6), a_first), ((o + 7), a_heaps), ((o + 21), a_backs)]) B Q H → va_S (gA G) s.heap H locs → lv_has ls 2 [(0, .ref o)] → W p l e ({ frames := 3, cells := 0, slots := 0, locals := 64 } : Room) s m args below meth c H locs 0 0 Z (F0 m 0 ls [])) (r := rl1) ?_ FU _ hw1 _ _ _ hR hS (lv_sub hl [0] rfl)
  clear hR hS hl hf
  intro s1 o1 hf hk1 H locs ls hR hS hl
  obtain ⟨w1_i_empties, w1_i_backFirst, w1_i_backMany⟩ := s1
  have hf : f10_ticks_s1 i_tick a_backs w1_i_empties w1_i_backFirst w1_i_backMany = some o1 := hf
  have hR : RS G K (ov I [(703, o, i_water), (704, o, i_thrown), (714, o, w1_i_empties), (715, o, w1_i_backFirst), (716, o, w1_i_backMany), (717, o, i_drawn), (718, o, i_spilt)]) J X (ova (ovg A (o + 9) 12 g_pails) [((o + 1), a_men), ((o + 2), a_done), ((o + 3), a_busy), ((o + 4), a_litres), ((o + 5), a_stands), ((o + 6), a_first), ((o + 7), a_heaps), ((o + 21), a_backs)]) B Q H := hR
  have hl : lv_has ls 2 [(0, .ref o)] := hl
  unfold f10_ticks_s1 at hf
  refine lv_aload_n hx hb dX10_ticks_0 rfl (lv_at hl 0 rfl) ?_
  refine n_geti (v := w1_i_backMany) hx hb hts hown hG hR gFi_X10_53_7 sh_o.1 (ov_get 4 rfl rfl) dX10_ticks_1 ?_
  refine lv_if_le (tgt := 59) hx hb dX10_ticks_4 (by decide) (fun c38 => ?_) (fun c38 => ?_)
  · have hf := ite_t c38 hf
    obtain rfl := some_i hf
    replace hk1 : _ = rl1 := hk1
    subst hk1
    exact hx1_0 (w1_i_empties, w1_i_backFirst, w1_i_backMany) hfo1 _ _ _ hR hS (lv_sub hl [0] rfl)
  · have hf := ite_f c38 hf
    refine lv_aload_n hx hb dX10_ticks_7 rfl (lv_at hl 0 rfl) ?_
    refine g_getr (b := (o + 21)) hx hb hts hown hG hR gFx_X10_35_7 sh_o.1 ((sh_o.2 8 _ rfl).2) dX10_ticks_8 ?_
    refine lv_aload_n hx hb dX10_ticks_11 rfl (lv_at hl 0 rfl) ?_
    refine n_geti (v := w1_i_backFirst) hx hb hts hown hG hR gFi_X10_50_7 sh_o.1 (ov_get 3 rfl rfl) dX10_ticks_12 ?_
    obtain ⟨c39, hf⟩ := gd_some hf
    obtain ⟨v40, ev40, hf⟩ := lt_some hf
    refine n_iald (x := a_backs) hx hb hG hR k_a_backs c39 (ova_get 7 hN_A rfl) ev40 dX10_ticks_15 ?_
    refine lv_aload_n hx hb dX10_ticks_16 rfl (lv_at hl 0 rfl) ?_
    refine n_geti (v := i_tick) hx hb hts hown hG hR gFi_X10_100_7 sh_o.1 ((congrFun (ov_no rfl) _).trans e_i_tick) dX10_ticks_17 ?_
    refine lv_icmp_ne (tgt := 59) hx hb dX10_ticks_20 (by decide) (fun c41 => ?_) (fun c41 => ?_)
    · have hf := ite_f c41 hf
      obtain rfl := some_i hf
      replace hk1 : _ = rl1 := hk1
      subst hk1
      exact hx1_0 (w1_i_empties, w1_i_backFirst, w1_i_backMany) hfo1 _ _ _ hR hS (lv_sub hl [0] rfl)
    · have hf := ite_t c41 hf
      refine lv_aload_n hx hb dX10_ticks_23 rfl (lv_at hl 0 rfl) ?_
      refine lv_aload_n hx hb dX10_ticks_24 rfl (lv_at hl 0 rfl) ?_
      refine n_geti (v := w1_i_backFirst) hx hb hts hown hG hR gFi_X10_50_7 sh_o.1 (ov_get 3 rfl rfl) dX10_ticks_25 ?_
      refine lv_iconst (v := 1) hx hb dX10_ticks_28 li_1 ?_
      obtain ⟨v42, ev42, hf⟩ := lt_some hf
      refine n_iadd hx hb ev42 dX10_ticks_29 ?_
      refine lv_bipush (v := 30) hx hb dX10_ticks_30 lb_30 ?_
      obtain ⟨c44, hf⟩ := gd_some hf
      obtain ⟨v43, ev43, hf⟩ := lt_some hf
      refine n_irem hx hb c44 ev43 dX10_ticks_32 ?_
      refine n_puti (li' := [(703, o, i_water), (704, o, i_thrown), (714, o, w1_i_empties), (715, o, v43), (716, o, w1_i_backMany), (717, o, i_drawn), (718, o, i_spilt)]) hx hb hts hown hG hR hS gPi_X10_50_7 sh_o.1 3 rfl rfl rfl dX10_ticks_33 (fun H locs hR hS => ?_)
      refine lv_aload_n hx hb dX10_ticks_36 rfl (lv_at hl 0 rfl) ?_
      refine lv_dup hx hb dX10_ticks_37 rfl ?_
      refine n_geti (v := w1_i_backMany) hx hb hts hown hG hR gFi_X10_53_7 sh_o.1 (ov_get 4 rfl rfl) dX10_ticks_38 ?_
      refine lv_iconst (v := 1) hx hb dX10_ticks_41 li_1 ?_
      obtain ⟨v45, ev45, hf⟩ := lt_some hf
      refine n_isub hx hb ev45 dX10_ticks_42 ?_
      refine n_puti (li' := [(703, o, i_water), (704, o, i_thrown), (714, o, w1_i_empties), (715, o, v43), (716, o, v45), (717, o, i_drawn), (718, o, i_spilt)]) hx hb hts hown hG hR hS gPi_X10_53_7 sh_o.1 4 rfl rfl rfl dX10_ticks_43 (fun H locs hR hS => ?_)
      refine lv_aload_n hx hb dX10_ticks_46 rfl (lv_at hl 0 rfl) ?_
      refine lv_dup hx hb dX10_ticks_47 rfl ?_
      refine n_geti (v := w1_i_empties) hx hb hts hown hG hR gFi_X10_47_7 sh_o.1 (ov_get 2 rfl rfl) dX10_ticks_48 ?_
      refine lv_iconst (v := 1) hx hb dX10_ticks_51 li_1 ?_
      obtain ⟨v46, ev46, hf⟩ := lt_some hf
      refine n_iadd hx hb ev46 dX10_ticks_52 ?_
      refine n_puti (li' := [(703, o, i_water), (704, o, i_thrown), (714, o, v46), (715, o, v43), (716, o, v45), (717, o, i_drawn), (718, o, i_spilt)]) hx hb hts hown hG hR hS gPi_X10_47_7 sh_o.1 2 rfl rfl rfl dX10_ticks_53 (fun H locs hR hS => ?_)
      refine lv_goto (tgt := 0) hx hb dX10_ticks_56 (by decide) ?_
      obtain rfl := some_i hf
      exact hk1 _ _ _ hR hS (lv_sub hl [0] rfl)
noncomputable def f10_heap_e1_0 (x1_0 : Int32) : Option (Int32) :=
  some x1_0

noncomputable def f10_heap_j37 (w1_2 : Int32) (j37_1 : Int32) : Option ((Int32 × Int32) ⊕ (Int32)) :=
  lt (w1_2 + (1 : Int32)) fun v5 =>
  some (.inl (j37_1, v5))

noncomputable def f10_heap_j32 (w1_1 : Int32) (w1_2 : Int32) (v4 : Int32) (j32_s0 : Int32) : Option ((Int32 × Int32) ⊕ (Int32)) :=
  if v4 ≤ j32_s0 then
    f10_heap_j37 w1_2 w1_1
  else
    f10_heap_j37 w1_2 w1_2

noncomputable def f10_heap_s1 (i_many : Int32) (a_heaps : Nat → Int32) (w1_1 : Int32) (w1_2 : Int32) : Option ((Int32 × Int32) ⊕ (Int32)) :=
  if i_many ≤ w1_2 then
    some (.inr w1_1)
  else
    gd (inb w1_2 12) <|
    lt (a_heaps w1_2.toNatClampNeg) fun v4 =>
    if w1_1 = 0 then
      f10_heap_j32 w1_1 w1_2 v4 (0 : Int32)
    else
      gd (inb w1_1 12) <|
      lt (a_heaps w1_1.toNatClampNeg) fun v9 =>
      f10_heap_j32 w1_1 w1_2 v4 v9

noncomputable def f10_heap (i_many : Int32) (a_heaps : Nat → Int32) : Option (Int32) :=
  (whl (fun (s1 : Int32 × Int32) => f10_heap_s1 i_many a_heaps s1.1 s1.2) FU ((0 : Int32), (1 : Int32))).bind fun rl1 =>
  f10_heap_e1_0 rl1
set_option maxHeartbeats 4000000 in
theorem m10_heap (l : Launch) (G : gG) (K : gK) (I : gI) (J : gJ) (X : gX) (A : gI) (B : gJ) (Q : gX) (o : Nat) (sh_o : Sh K X o 7 rows7)  (i_many : Int32) (a_heaps : Nat → Int32) (e_i_many : I 702 o = i_many) (e_a_heaps : A (o + 7) = a_heaps) (out : Int32) (hf : f10_heap i_many a_heaps = some out) : GMet l yX10_heap cX10_heap 3 (some .int) (0) (0) G [.ref o] K I J X A B Q (some (.int out)) K I J X A B Q 0 0 := by
  refine GMet.of (y := yX10_heap) rfl (Nat.le_of_ble_eq_true rfl) rfl ?_
  intro p e s m below meth c ls hx hb hr hml hlocks hts hown hname hG hR hl
  have hown : s.vm.findClass RX10 = some m.cls := hown
  have k_a_heaps : K (o + 7) = some (.inr (0, 12)) := (sh_o.2 6 _ rfl).1
  have hR : RS G K I J X A B Q s.heap := hR.to rfl rfl rfl rfl rfl rfl
  have hS : va_S (gA G) s.heap s.heap [] := va_S.rf
  have hend : ∀ (pc : Nat) (H : Heap) (locs : List Loc) (ls : Array Slot), decode cX10_heap pc = .ok (.ireturn, 1) → RS G K I J X A B Q H → va_S (gA G) s.heap H locs → W p l e ({ frames := 0, cells := 0, slots := 0, locals := 0 } : Room) s m ([.ref o] : List Value).toArray below meth c H locs 0 0 (MQ below (gQ G (some (.int out)) K I J X A B Q) ([.ref o] : List Value).toArray s 0 0 (gA G)) (F0 m pc ls [.int out]) := fun pc H locs ls hd hR hS => g_iret hx hb hr hlocks hG hR hS rfl hd
  generalize MQ below (gQ G (some (.int out)) K I J X A B Q) ([.ref o] : List Value).toArray s 0 0 (gA G) = Z at hend ⊢
  generalize ([.ref o] : List Value).toArray = args at hts hend ⊢
  unfold f10_heap at hf
  refine lv_iconst (v := 0) hx hb dX10_heap_0 li_0 ?_
  refine lv_istore_n (lv' := [(1, .int (0 : Int32)), (0, .ref o)]) hx hb dX10_heap_1 rfl hl (by decide) rfl (fun ls hl => ?_)
  refine lv_iconst (v := 1) hx hb dX10_heap_2 li_1 ?_
  refine lv_istore_n (lv' := [(2, .int (1 : Int32)), (1, .int (0 : Int32)), (0, .ref o)]) hx hb dX10_heap_3 rfl hl (by decide) rfl (fun ls hl => ?_)
  obtain ⟨rl1, hw1, hfo1⟩ := bind_s hf
  have hx1_0 : ∀ (x1_0 : Int32), f10_heap_e1_0 x1_0 = some out → ∀ (H : Heap) (locs : List Loc) (ls : Array Slot), RS G K I J X A B Q H → va_S (gA G) s.heap H locs → lv_has ls 3 [(0, .ref o), (1, .int x1_0)] → W p l e ({ frames := 0, cells := 0, slots := 0, locals := 0 } : Room) s m args below meth c H locs 0 0 Z (F0 m 43 ls []) := by
    intro x1_0 hf H locs ls hR hS hl
    unfold f10_heap_e1_0 at hf
    refine lv_iload_n hx hb dX10_heap_43 rfl (lv_at hl 1 rfl) ?_
    obtain rfl := some_i hf
    exact hend _ _ _ _ dX10_heap_44 hR hS
  refine whl_walk (P := fun (s1 : Int32 × Int32) => ∀ (H : Heap) (locs : List Loc) (ls : Array Slot), RS G K I J X A B Q H → va_S (gA G) s.heap H locs → lv_has ls 3 [(0, .ref o), (1, .int s1.1), (2, .int s1.2)] → W p l e ({ frames := 0, cells := 0, slots := 0, locals := 0 } : Room) s m args below meth c H locs 0 0 Z (F0 m 4 ls [])) (r := rl1) ?_ FU _ hw1 _ _ _ hR hS (lv_sub hl [2, 1, 0] rfl)
  clear hR hS hl hf
  intro s1 o1 hf hk1 H locs ls hR hS hl
  obtain ⟨w1_1, w1_2⟩ := s1
  have hf : f10_heap_s1 i_many a_heaps w1_1 w1_2 = some o1 := hf
  have hR : RS G K I J X A B Q H := hR
  have hl : lv_has ls 3 [(0, .ref o), (1, .int w1_1), (2, .int w1_2)] := hl
  unfold f10_heap_s1 at hf
  refine lv_iload_n hx hb dX10_heap_4 rfl (lv_at hl 2 rfl) ?_
  refine lv_aload_n hx hb dX10_heap_5 rfl (lv_at hl 0 rfl) ?_
  refine n_geti (v := i_many) hx hb hts hown hG hR gFi_X10_69_7 sh_o.1 e_i_many dX10_heap_6 ?_
  refine lv_icmp_ge (tgt := 43) hx hb dX10_heap_9 (by decide) (fun c2 => ?_) (fun c2 => ?_)
  · have hf := ite_t c2 hf
    obtain rfl := some_i hf
    replace hk1 : _ = rl1 := hk1
    subst hk1
    exact hx1_0 w1_1 hfo1 _ _ _ hR hS (lv_sub hl [0, 1] rfl)
  · have hf := ite_f c2 hf
    refine lv_aload_n hx hb dX10_heap_12 rfl (lv_at hl 0 rfl) ?_
    refine g_getr (b := (o + 7)) hx hb hts hown hG hR gFx_X10_27_7 sh_o.1 ((sh_o.2 6 _ rfl).2) dX10_heap_13 ?_
    refine lv_iload_n hx hb dX10_heap_16 rfl (lv_at hl 2 rfl) ?_
    obtain ⟨c3, hf⟩ := gd_some hf
    obtain ⟨v4, ev4, hf⟩ := lt_some hf
    refine n_iald (x := a_heaps) hx hb hG hR k_a_heaps c3 e_a_heaps ev4 dX10_heap_17 ?_
    refine lv_iload_n hx hb dX10_heap_18 rfl (lv_at hl 1 rfl) ?_
    have hj32 : ∀ (j32_s0 : Int32), f10_heap_j32 w1_1 w1_2 v4 j32_s0 = some o1 → ∀ (H : Heap) (locs : List Loc) (ls : Array Slot), RS G K I J X A B Q H → va_S (gA G) s.heap H locs → lv_has ls 3 [(0, .ref o), (1, .int w1_1), (2, .int w1_2)] → W p l e ({ frames := 0, cells := 0, slots := 0, locals := 0 } : Room) s m args below meth c H locs 0 0 Z (F0 m 32 ls [.int j32_s0, .int v4]) := by
      intro j32_s0 hf H locs ls hR hS hl
      unfold f10_heap_j32 at hf
      have hj37 : ∀ (j37_1 : Int32), f10_heap_j37 w1_2 j37_1 = some o1 → ∀ (H : Heap) (locs : List Loc) (ls : Array Slot), RS G K I J X A B Q H → va_S (gA G) s.heap H locs → lv_has ls 3 [(0, .ref o), (1, .int j37_1), (2, .int w1_2)] → W p l e ({ frames := 0, cells := 0, slots := 0, locals := 0 } : Room) s m args below meth c H locs 0 0 Z (F0 m 37 ls []) := by
        intro j37_1 hf H locs ls hR hS hl
        unfold f10_heap_j37 at hf
        obtain ⟨v5, ev5, hf⟩ := lt_some hf
        refine lv_iinc (k := 2) (v := v5) (lv' := [(2, .int v5), (0, .ref o), (1, .int j37_1)]) hx hb dX10_heap_37 hl rfl (by rw [ev5]; rfl) (by decide) rfl (fun ls hl => ?_)
        refine lv_goto (tgt := 4) hx hb dX10_heap_40 (by decide) ?_
        obtain rfl := some_i hf
        exact hk1 _ _ _ hR hS (lv_sub hl [1, 2, 0] rfl)
      refine lv_icmp_le (tgt := 37) hx hb dX10_heap_32 (by decide) (fun c6 => ?_) (fun c6 => ?_)
      · have hf := ite_t c6 hf
        exact hj37 w1_1 hf _ _ _ hR hS (lv_sub hl [0, 1, 2] rfl)
      · have hf := ite_f c6 hf
        refine lv_iload_n hx hb dX10_heap_35 rfl (lv_at hl 2 rfl) ?_
        refine lv_istore_n (lv' := [(1, .int w1_2), (0, .ref o), (2, .int w1_2)]) hx hb dX10_heap_36 rfl hl (by decide) rfl (fun ls hl => ?_)
        exact hj37 w1_2 hf _ _ _ hR hS (lv_sub hl [1, 0, 2] rfl)
    refine lv_if_ne (tgt := 26) hx hb dX10_heap_19 (by decide) (fun c7 => ?_) (fun c7 => ?_)
    · have hf := ite_f c7 hf
      refine lv_aload_n hx hb dX10_heap_26 rfl (lv_at hl 0 rfl) ?_
      refine g_getr (b := (o + 7)) hx hb hts hown hG hR gFx_X10_27_7 sh_o.1 ((sh_o.2 6 _ rfl).2) dX10_heap_27 ?_
      refine lv_iload_n hx hb dX10_heap_30 rfl (lv_at hl 1 rfl) ?_
      obtain ⟨c8, hf⟩ := gd_some hf
      obtain ⟨v9, ev9, hf⟩ := lt_some hf
      refine n_iald (x := a_heaps) hx hb hG hR k_a_heaps c8 e_a_heaps ev9 dX10_heap_31 ?_
      exact hj32 v9 hf _ _ _ hR hS (lv_sub hl [0, 1, 2] rfl)
    · have hf := ite_t c7 hf
      refine lv_iconst (v := 0) hx hb dX10_heap_22 li_0 ?_
      refine lv_goto (tgt := 32) hx hb dX10_heap_23 (by decide) ?_
      exact hj32 (0 : Int32) hf _ _ _ hR hS (lv_sub hl [0, 1, 2] rfl)
noncomputable def f11_ends_j68 (p1 : Int32) (a_does : Nat → Int32) (u6 : Nat → Int32) (j39_i_drawing : Int32) (j68_i_thrown : Int32) : Option (Int32 × Int32 × (Nat → Int32) × (Nat → Int32)) :=
  gd (inb p1 12) <|
  lt (a_does p1.toNatClampNeg) fun v12 =>
  if v12 = (3 : Int32) then
    gd (inb p1 12) <|
    lt (upd a_does p1.toNatClampNeg (0 : Int32)) fun u20 =>
    some (j68_i_thrown, j39_i_drawing, u20, u6)
  else
    gd (inb p1 12) <|
    lt (a_does p1.toNatClampNeg) fun v15 =>
    lt (v15 + (1 : Int32)) fun v16 =>
    gd (inb p1 12) <|
    lt (upd a_does p1.toNatClampNeg v16) fun u18 =>
    some (j68_i_thrown, j39_i_drawing, u18, u6)

noncomputable def f11_ends_j39 (p1 : Int32) (i_thrown : Int32) (a_does : Nat → Int32) (a_litres : Nat → Int32) (u6 : Nat → Int32) (j39_i_drawing : Int32) : Option (Int32 × Int32 × (Nat → Int32) × (Nat → Int32)) :=
  gd (inb p1 12) <|
  lt (a_does p1.toNatClampNeg) fun v10 =>
  if v10 = (2 : Int32) then
    gd (inb p1 12) <|
    lt (a_litres p1.toNatClampNeg) fun v23 =>
    (f1_up v23 (2 : Int32)).bind fun rr24 =>
    lt (i_thrown + rr24) fun v25 =>
    f11_ends_j68 p1 a_does u6 j39_i_drawing v25
  else
    f11_ends_j68 p1 a_does u6 j39_i_drawing i_thrown

noncomputable def f11_ends (p1 : Int32) (i_y_way : Int32) (i_thrown : Int32) (i_drawing : Int32) (a_men : Nat → Int32) (a_does : Nat → Int32) (a_left : Nat → Int32) (a_litres : Nat → Int32) (q_y_men : Nat → Option Nat) (mi_pace : Nat → Int32) : Option (Int32 × Int32 × (Nat → Int32) × (Nat → Int32)) :=
  (f9_manN p1 a_men q_y_men).bind fun rr1 =>
  (rr1).bind fun m2 =>
  lt (mi_pace m2) fun v3 =>
  (f1_up i_y_way v3).bind fun rr4 =>
  gd (inb p1 12) <|
  lt (upd a_left p1.toNatClampNeg rr4) fun u6 =>
  gd (inb p1 12) <|
  lt (a_does p1.toNatClampNeg) fun v8 =>
  if v8 = (1 : Int32) then
    f11_ends_j39 p1 i_thrown a_does a_litres u6 (0 : Int32)
  else
    f11_ends_j39 p1 i_thrown a_does a_litres u6 i_drawing
set_option maxHeartbeats 4000000 in
theorem m11_ends (l : Launch) (G : gG) (K : gK) (I : gI) (J : gJ) (X : gX) (A : gI) (B : gJ) (Q : gX) (o : Nat) (y : Nat) (sh_o : Sh K X o 8 rows8) (sh_y : Sh K X y 3 rows3) (x_o_yard : X 801 o = some y) (p1 : Int32) (i_y_way : Int32) (i_thrown : Int32) (i_drawing : Int32) (a_men : Nat → Int32) (a_does : Nat → Int32) (a_left : Nat → Int32) (a_litres : Nat → Int32) (q_y_men : Nat → Option Nat) (mi_pace : Nat → Int32) (e_i_y_way : I 306 y = i_y_way) (e_i_thrown : I 804 o = i_thrown) (e_i_drawing : I 809 o = i_drawing) (e_a_men : A (o + 1) = a_men) (e_a_does : A (o + 2) = a_does) (e_a_left : A (o + 3) = a_left) (e_a_litres : A (o + 4) = a_litres) (e_q_y_men : Q (y + 1) = q_y_men) (e_mi_pace : I 1202 = mi_pace) (hman : ∀ (j m : Nat), q_y_men j = some m → K m = some (.inl 12)) (out : Int32 × Int32 × (Nat → Int32) × (Nat → Int32)) (hf : f11_ends p1 i_y_way i_thrown i_drawing a_men a_does a_left a_litres q_y_men mi_pace = some out) : GMet l yX11_ends cX11_ends 2 none (1) (21) G [.ref o, .int p1] K I J X A B Q none K (ov I [(804, o, out.1), (809, o, out.2.1)]) J X (ova A [((o + 1), a_men), ((o + 2), out.2.2.1), ((o + 3), out.2.2.2), ((o + 4), a_litres)]) B Q 0 0 := by
  refine GMet.of (y := yX11_ends) rfl (Nat.le_of_ble_eq_true rfl) rfl ?_
  intro p e s m below meth c ls hx hb hr hml hlocks hts hown hname hG hR hl
  have hown : s.vm.findClass RX11 = some m.cls := hown
  have k_a_men : K (o + 1) = some (.inr (0, 12)) := (sh_o.2 0 _ rfl).1
  have k_a_does : K (o + 2) = some (.inr (0, 12)) := (sh_o.2 1 _ rfl).1
  have k_a_left : K (o + 3) = some (.inr (0, 12)) := (sh_o.2 2 _ rfl).1
  have k_a_litres : K (o + 4) = some (.inr (0, 12)) := (sh_o.2 3 _ rfl).1
  have k_q_y_men : K (y + 1) = some (.inr (4, 12)) := (sh_y.2 0 _ rfl).1
  have hN_A : nda [(o + 1), (o + 2), (o + 3), (o + 4)] := nd_off o [1, 2, 3, 4] rfl
  have hR : RS G K (ov I [(804, o, i_thrown), (809, o, i_drawing)]) J X (ova A [((o + 1), a_men), ((o + 2), a_does), ((o + 3), a_left), ((o + 4), a_litres)]) B Q s.heap := hR.to (Eq.symm (ov_sc e_i_thrown (ov_sc e_i_drawing rfl))) rfl rfl (Eq.symm (ova_sc e_a_men (ova_sc e_a_does (ova_sc e_a_left (ova_sc e_a_litres rfl))))) rfl rfl
  have hS : va_S (gA G) s.heap s.heap [] := va_S.rf
  have hend : ∀ (pc : Nat) (H : Heap) (locs : List Loc) (ls : Array Slot), decode cX11_ends pc = .ok (.return_, 1) → RS G K (ov I [(804, o, out.1), (809, o, out.2.1)]) J X (ova A [((o + 1), a_men), ((o + 2), out.2.2.1), ((o + 3), out.2.2.2), ((o + 4), a_litres)]) B Q H → va_S (gA G) s.heap H locs → W p l e ({ frames := 1, cells := 0, slots := 0, locals := 21 } : Room) s m ([.ref o, .int p1] : List Value).toArray below meth c H locs 0 0 (MQ below (gQ G none K (ov I [(804, o, out.1), (809, o, out.2.1)]) J X (ova A [((o + 1), a_men), ((o + 2), out.2.2.1), ((o + 3), out.2.2.2), ((o + 4), a_litres)]) B Q) ([.ref o, .int p1] : List Value).toArray s 0 0 (gA G)) (F0 m pc ls []) := fun pc H locs ls hd hR hS => g_vret hx hb hr hlocks hG hR hS rfl hd
  generalize MQ below (gQ G none K (ov I [(804, o, out.1), (809, o, out.2.1)]) J X (ova A [((o + 1), a_men), ((o + 2), out.2.2.1), ((o + 3), out.2.2.2), ((o + 4), a_litres)]) B Q) ([.ref o, .int p1] : List Value).toArray s 0 0 (gA G) = Z at hend ⊢
  generalize ([.ref o, .int p1] : List Value).toArray = args at hts hend ⊢
  unfold f11_ends at hf
  refine lv_aload_n hx hb dX11_ends_0 rfl (lv_at hl 0 rfl) ?_
  refine g_getr (b := (o + 3)) hx hb hts hown hG hR gFx_X11_15_8 sh_o.1 ((sh_o.2 2 _ rfl).2) dX11_ends_1 ?_
  refine lv_iload_n hx hb dX11_ends_4 rfl (lv_at hl 1 rfl) ?_
  refine lv_aload_n hx hb dX11_ends_5 rfl (lv_at hl 0 rfl) ?_
  refine g_getr (b := y) hx hb hts hown hG hR gFx_X11_55_8 sh_o.1 x_o_yard dX11_ends_6 ?_
  refine n_geti (v := i_y_way) hx hb hts hown hG hR gFi_X11_62_3 sh_y.1 ((congrFun (ov_no rfl) _).trans e_i_y_way) dX11_ends_9 ?_
  refine lv_aload_n hx hb dX11_ends_12 rfl (lv_at hl 0 rfl) ?_
  refine lv_iload_n hx hb dX11_ends_13 rfl (lv_at hl 1 rfl) ?_
  obtain ⟨rr1, hrr1, hf⟩ := bind_s hf
  refine g0_cU (rm := (0, 0)) (As := [.int p1]) (rest := [.int i_y_way, .int p1, .ref (o + 3)]) ⟨hx, hb, hml, hown, hts⟩ hG hR hS (m9_manN l G K (ov I [(804, o, i_thrown), (809, o, i_drawing)]) J X (ova A [((o + 1), a_men), ((o + 2), a_does), ((o + 3), a_left), ((o + 4), a_litres)]) B Q o y sh_o sh_y x_o_yard p1 a_men q_y_men (ova_get 0 hN_A rfl) e_q_y_men rr1 hrr1) (va_cwU (x := ⟨"PailRow$Runners", "man", "(I)LPailRow$Man;"⟩) (owner := "PailRow$Team") 1 hts gu_X11_65_8 rfl rfl rfl rfl ⟨by decide, by decide, (hd_X9_man.2).2.2⟩ ⟨Nat.le_of_ble_eq_true rfl, Nat.le_of_ble_eq_true rfl⟩) sh_o.1 rfl rfl hl.1 (Nat.le_of_ble_eq_true rfl) dX11_ends_14 ⟨Nat.le_refl _, Nat.le_refl _⟩ rfl (fun H locs hR hS => ?_)
  obtain ⟨m2, hm2, hf⟩ := bind_s hf
  obtain ⟨v3, ev3, hf⟩ := lt_some hf
  refine n_some hm2 ?_
  have k_m2 : K m2 = some (.inl 12) := (man_k hman (f9_manN_q hrr1) hm2)
  refine n_geti (v := v3) hx hb hts hown hG hR gFi_X11_69_12 k_m2 ((congrFun (ov_no rfl) m2).trans ((congrFun e_mi_pace m2).trans ev3.symm)) dX11_ends_17 ?_
  obtain ⟨rr4, hrr4, hf⟩ := bind_s hf
  refine g0_cSN (rm := (0, 0)) (As := [.int i_y_way, .int v3]) (rest := [.int p1, .ref (o + 3)]) ⟨hx, hb, hml, hown, hts⟩ hG hR hS (m1_up l G K (ov I [(804, o, i_thrown), (809, o, i_drawing)]) J X (ova A [((o + 1), a_men), ((o + 2), a_does), ((o + 3), a_left), ((o + 4), a_litres)]) B Q i_y_way v3 rr4 hrr4) ⟨va_cnB 2 hts (lw_meth q1169) rfl rfl rfl (hG.2 _ q1198 rfl) (hts _ q103) hd_X1_up.2 ⟨Nat.le_of_ble_eq_true rfl, Nat.le_of_ble_eq_true rfl⟩, hts _ q1168, trivial⟩ rfl hl.1 (Nat.le_of_ble_eq_true rfl) dX11_ends_20 ⟨Nat.le_refl _, Nat.le_refl _⟩ rfl (fun H locs hR hS => ?_)
  obtain ⟨c5, hf⟩ := gd_some hf
  obtain ⟨u6, eu6, hf⟩ := lt_some hf
  refine n_iast (la' := [((o + 1), a_men), ((o + 2), a_does), ((o + 3), u6), ((o + 4), a_litres)]) hx hb hG hR hS k_a_left c5 hN_A 2 rfl eu6 rfl dX11_ends_23 (fun H locs hR hS => ?_)
  refine lv_aload_n hx hb dX11_ends_24 rfl (lv_at hl 0 rfl) ?_
  refine g_getr (b := (o + 2)) hx hb hts hown hG hR gFx_X11_9_8 sh_o.1 ((sh_o.2 1 _ rfl).2) dX11_ends_25 ?_
  refine lv_iload_n hx hb dX11_ends_28 rfl (lv_at hl 1 rfl) ?_
  obtain ⟨c7, hf⟩ := gd_some hf
  obtain ⟨v8, ev8, hf⟩ := lt_some hf
  refine n_iald (x := a_does) hx hb hG hR k_a_does c7 (ova_get 1 hN_A rfl) ev8 dX11_ends_29 ?_
  refine lv_iconst (v := 1) hx hb dX11_ends_30 li_1 ?_
  have hj39 : ∀ (j39_i_drawing : Int32), f11_ends_j39 p1 i_thrown a_does a_litres u6 j39_i_drawing = some out → ∀ (H : Heap) (locs : List Loc) (ls : Array Slot), RS G K (ov I [(804, o, i_thrown), (809, o, j39_i_drawing)]) J X (ova A [((o + 1), a_men), ((o + 2), a_does), ((o + 3), u6), ((o + 4), a_litres)]) B Q H → va_S (gA G) s.heap H locs → lv_has ls 2 [(0, .ref o), (1, .int p1)] → W p l e ({ frames := 1, cells := 0, slots := 0, locals := 21 } : Room) s m args below meth c H locs 0 0 Z (F0 m 39 ls []) := by
    intro j39_i_drawing hf H locs ls hR hS hl
    unfold f11_ends_j39 at hf
    refine lv_aload_n hx hb dX11_ends_39 rfl (lv_at hl 0 rfl) ?_
    refine g_getr (b := (o + 2)) hx hb hts hown hG hR gFx_X11_9_8 sh_o.1 ((sh_o.2 1 _ rfl).2) dX11_ends_40 ?_
    refine lv_iload_n hx hb dX11_ends_43 rfl (lv_at hl 1 rfl) ?_
    obtain ⟨c9, hf⟩ := gd_some hf
    obtain ⟨v10, ev10, hf⟩ := lt_some hf
    refine n_iald (x := a_does) hx hb hG hR k_a_does c9 (ova_get 1 hN_A rfl) ev10 dX11_ends_44 ?_
    refine lv_iconst (v := 2) hx hb dX11_ends_45 li_2 ?_
    have hj68 : ∀ (j68_i_thrown : Int32), f11_ends_j68 p1 a_does u6 j39_i_drawing j68_i_thrown = some out → ∀ (H : Heap) (locs : List Loc) (ls : Array Slot), RS G K (ov I [(804, o, j68_i_thrown), (809, o, j39_i_drawing)]) J X (ova A [((o + 1), a_men), ((o + 2), a_does), ((o + 3), u6), ((o + 4), a_litres)]) B Q H → va_S (gA G) s.heap H locs → lv_has ls 2 [(0, .ref o), (1, .int p1)] → W p l e ({ frames := 1, cells := 0, slots := 0, locals := 21 } : Room) s m args below meth c H locs 0 0 Z (F0 m 68 ls []) := by
      intro j68_i_thrown hf H locs ls hR hS hl
      unfold f11_ends_j68 at hf
      refine lv_aload_n hx hb dX11_ends_68 rfl (lv_at hl 0 rfl) ?_
      refine g_getr (b := (o + 2)) hx hb hts hown hG hR gFx_X11_9_8 sh_o.1 ((sh_o.2 1 _ rfl).2) dX11_ends_69 ?_
      refine lv_iload_n hx hb dX11_ends_72 rfl (lv_at hl 1 rfl) ?_
      refine lv_aload_n hx hb dX11_ends_73 rfl (lv_at hl 0 rfl) ?_
      refine g_getr (b := (o + 2)) hx hb hts hown hG hR gFx_X11_9_8 sh_o.1 ((sh_o.2 1 _ rfl).2) dX11_ends_74 ?_
      refine lv_iload_n hx hb dX11_ends_77 rfl (lv_at hl 1 rfl) ?_
      obtain ⟨c11, hf⟩ := gd_some hf
      obtain ⟨v12, ev12, hf⟩ := lt_some hf
      refine n_iald (x := a_does) hx hb hG hR k_a_does c11 (ova_get 1 hN_A rfl) ev12 dX11_ends_78 ?_
      refine lv_iconst (v := 3) hx hb dX11_ends_79 li_3 ?_
      refine lv_icmp_ne (tgt := 87) hx hb dX11_ends_80 (by decide) (fun c13 => ?_) (fun c13 => ?_)
      · have hf := ite_f c13 hf
        refine lv_aload_n hx hb dX11_ends_87 rfl (lv_at hl 0 rfl) ?_
        refine g_getr (b := (o + 2)) hx hb hts hown hG hR gFx_X11_9_8 sh_o.1 ((sh_o.2 1 _ rfl).2) dX11_ends_88 ?_
        refine lv_iload_n hx hb dX11_ends_91 rfl (lv_at hl 1 rfl) ?_
        obtain ⟨c14, hf⟩ := gd_some hf
        obtain ⟨v15, ev15, hf⟩ := lt_some hf
        refine n_iald (x := a_does) hx hb hG hR k_a_does c14 (ova_get 1 hN_A rfl) ev15 dX11_ends_92 ?_
        refine lv_iconst (v := 1) hx hb dX11_ends_93 li_1 ?_
        obtain ⟨v16, ev16, hf⟩ := lt_some hf
        refine n_iadd hx hb ev16 dX11_ends_94 ?_
        obtain ⟨c17, hf⟩ := gd_some hf
        obtain ⟨u18, eu18, hf⟩ := lt_some hf
        refine n_iast (la' := [((o + 1), a_men), ((o + 2), u18), ((o + 3), u6), ((o + 4), a_litres)]) hx hb hG hR hS k_a_does c17 hN_A 1 rfl eu18 rfl dX11_ends_95 (fun H locs hR hS => ?_)
        obtain rfl := some_i hf
        exact hend _ _ _ _ dX11_ends_96 hR hS
      · have hf := ite_t c13 hf
        refine lv_iconst (v := 0) hx hb dX11_ends_83 li_0 ?_
        refine lv_goto (tgt := 95) hx hb dX11_ends_84 (by decide) ?_
        obtain ⟨c19, hf⟩ := gd_some hf
        obtain ⟨u20, eu20, hf⟩ := lt_some hf
        refine n_iast (la' := [((o + 1), a_men), ((o + 2), u20), ((o + 3), u6), ((o + 4), a_litres)]) hx hb hG hR hS k_a_does c19 hN_A 1 rfl eu20 rfl dX11_ends_95 (fun H locs hR hS => ?_)
        obtain rfl := some_i hf
        exact hend _ _ _ _ dX11_ends_96 hR hS
    refine lv_icmp_ne (tgt := 68) hx hb dX11_ends_46 (by decide) (fun c21 => ?_) (fun c21 => ?_)
    · have hf := ite_f c21 hf
      exact hj68 i_thrown hf _ _ _ hR hS (lv_sub hl [0, 1] rfl)
    · have hf := ite_t c21 hf
      refine lv_aload_n hx hb dX11_ends_49 rfl (lv_at hl 0 rfl) ?_
      refine lv_dup hx hb dX11_ends_50 rfl ?_
      refine n_geti (v := i_thrown) hx hb hts hown hG hR gFi_X11_77_8 sh_o.1 (ov_get 0 rfl rfl) dX11_ends_51 ?_
      refine lv_aload_n hx hb dX11_ends_54 rfl (lv_at hl 0 rfl) ?_
      refine g_getr (b := (o + 4)) hx hb hts hown hG hR gFx_X11_18_8 sh_o.1 ((sh_o.2 3 _ rfl).2) dX11_ends_55 ?_
      refine lv_iload_n hx hb dX11_ends_58 rfl (lv_at hl 1 rfl) ?_
      obtain ⟨c22, hf⟩ := gd_some hf
      obtain ⟨v23, ev23, hf⟩ := lt_some hf
      refine n_iald (x := a_litres) hx hb hG hR k_a_litres c22 (ova_get 3 hN_A rfl) ev23 dX11_ends_59 ?_
      refine lv_iconst (v := 2) hx hb dX11_ends_60 li_2 ?_
      obtain ⟨rr24, hrr24, hf⟩ := bind_s hf
      refine g0_cSN (rm := (0, 0)) (As := [.int v23, .int (2 : Int32)]) (rest := [.int i_thrown, .ref o]) ⟨hx, hb, hml, hown, hts⟩ hG hR hS (m1_up l G K (ov I [(804, o, i_thrown), (809, o, j39_i_drawing)]) J X (ova A [((o + 1), a_men), ((o + 2), a_does), ((o + 3), u6), ((o + 4), a_litres)]) B Q v23 (2 : Int32) rr24 hrr24) ⟨va_cnB 2 hts (lw_meth q1169) rfl rfl rfl (hG.2 _ q1198 rfl) (hts _ q103) hd_X1_up.2 ⟨Nat.le_of_ble_eq_true rfl, Nat.le_of_ble_eq_true rfl⟩, hts _ q1168, trivial⟩ rfl hl.1 (Nat.le_of_ble_eq_true rfl) dX11_ends_61 ⟨Nat.le_refl _, Nat.le_refl _⟩ rfl (fun H locs hR hS => ?_)
      obtain ⟨v25, ev25, hf⟩ := lt_some hf
      refine n_iadd hx hb ev25 dX11_ends_64 ?_
      refine n_puti (li' := [(804, o, v25), (809, o, j39_i_drawing)]) hx hb hts hown hG hR hS gPi_X11_77_8 sh_o.1 0 rfl rfl rfl dX11_ends_65 (fun H locs hR hS => ?_)
      exact hj68 v25 hf _ _ _ hR hS (lv_sub hl [0, 1] rfl)
  refine lv_icmp_ne (tgt := 39) hx hb dX11_ends_31 (by decide) (fun c26 => ?_) (fun c26 => ?_)
  · have hf := ite_f c26 hf
    exact hj39 i_drawing hf _ _ _ hR hS (lv_sub hl [0, 1] rfl)
  · have hf := ite_t c26 hf
    refine lv_aload_n hx hb dX11_ends_34 rfl (lv_at hl 0 rfl) ?_
    refine lv_iconst (v := 0) hx hb dX11_ends_35 li_0 ?_
    refine n_putz (li' := [(804, o, i_thrown), (809, o, (0 : Int32))]) hx hb hts hown hG hR hS gPz_X11_37_8 sh_o.1 nz_0 1 rfl rfl rfl dX11_ends_36 (fun H locs hR hS => ?_)
    exact hj39 (0 : Int32) hf _ _ _ hR hS (lv_sub hl [0, 1] rfl)
noncomputable def f11_ticks_e1_0 (x1_0 : Int32 × Int32 × Int32 × (Nat → Int32) × (Nat → Int32) × (Nat → Int32)) : Option (Int32 × Int32 × Int32 × (Nat → Int32) × (Nat → Int32) × (Nat → Int32)) :=
  some x1_0

noncomputable def f11_ticks_j104 (w1_1 : Int32) (j43_i_thrown : Int32) (j104_i_water : Int32) (j104_i_drawing : Int32) (j104_a_does : Nat → Int32) (j104_a_left : Nat → Int32) (j104_a_litres : Nat → Int32) : Option ((Int32 × Int32 × Int32 × Int32 × (Nat → Int32) × (Nat → Int32) × (Nat → Int32)) ⊕ (Int32 × Int32 × Int32 × (Nat → Int32) × (Nat → Int32) × (Nat → Int32))) :=
  lt (w1_1 + (1 : Int32)) fun v7 =>
  some (.inl (v7, j104_i_water, j43_i_thrown, j104_i_drawing, j104_a_does, j104_a_left, j104_a_litres))

noncomputable def f11_ticks_j43 (i_y_hold : Int32) (i_y_draw : Int32) (w1_1 : Int32) (w1_i_water : Int32) (w1_a_litres : Nat → Int32) (j43_i_thrown : Int32) (j43_i_drawing : Int32) (j43_a_does : Nat → Int32) (j43_a_left : Nat → Int32) : Option ((Int32 × Int32 × Int32 × Int32 × (Nat → Int32) × (Nat → Int32) × (Nat → Int32)) ⊕ (Int32 × Int32 × Int32 × (Nat → Int32) × (Nat → Int32) × (Nat → Int32))) :=
  gd (inb w1_1 12) <|
  lt (j43_a_does w1_1.toNatClampNeg) fun v6 =>
  if v6 = 0 then
    if j43_i_drawing = 0 then
      if w1_i_water = 0 then
        f11_ticks_j104 w1_1 j43_i_thrown w1_i_water j43_i_drawing j43_a_does j43_a_left w1_a_litres
      else
        (f9_drawsN i_y_hold w1_i_water).bind fun rr11 =>
        gd (inb w1_1 12) <|
        lt (upd w1_a_litres w1_1.toNatClampNeg rr11.1) fun u13 =>
        gd (inb w1_1 12) <|
        lt (upd j43_a_does w1_1.toNatClampNeg (1 : Int32)) fun u15 =>
        gd (inb w1_1 12) <|
        lt (upd j43_a_left w1_1.toNatClampNeg i_y_draw) fun u17 =>
        f11_ticks_j104 w1_1 j43_i_thrown rr11.2 (1 : Int32) u15 u17 u13
    else
      f11_ticks_j104 w1_1 j43_i_thrown w1_i_water j43_i_drawing j43_a_does j43_a_left w1_a_litres
  else
    f11_ticks_j104 w1_1 j43_i_thrown w1_i_water j43_i_drawing j43_a_does j43_a_left w1_a_litres

noncomputable def f11_ticks_s1 (i_y_way : Int32) (i_y_hold : Int32) (i_y_draw : Int32) (i_many : Int32) (a_men : Nat → Int32) (q_y_men : Nat → Option Nat) (mi_pace : Nat → Int32) (w1_1 : Int32) (w1_i_water : Int32) (w1_i_thrown : Int32) (w1_i_drawing : Int32) (w1_a_does : Nat → Int32) (w1_a_left : Nat → Int32) (w1_a_litres : Nat → Int32) : Option ((Int32 × Int32 × Int32 × Int32 × (Nat → Int32) × (Nat → Int32) × (Nat → Int32)) ⊕ (Int32 × Int32 × Int32 × (Nat → Int32) × (Nat → Int32) × (Nat → Int32))) :=
  if i_many ≤ w1_1 then
    some (.inr (w1_i_water, w1_i_thrown, w1_i_drawing, w1_a_does, w1_a_left, w1_a_litres))
  else
    gd (inb w1_1 12) <|
    lt (w1_a_does w1_1.toNatClampNeg) fun v4 =>
    if v4 = 0 then
      f11_ticks_j43 i_y_hold i_y_draw w1_1 w1_i_water w1_a_litres w1_i_thrown w1_i_drawing w1_a_does w1_a_left
    else
      gd (inb w1_1 12) <|
      lt (w1_a_left w1_1.toNatClampNeg) fun v20 =>
      lt (v20 - (1 : Int32)) fun v21 =>
      gd (inb w1_1 12) <|
      lt (upd w1_a_left w1_1.toNatClampNeg v21) fun u23 =>
      gd (inb w1_1 12) <|
      lt (u23 w1_1.toNatClampNeg) fun v25 =>
      if v25 = 0 then
        (f11_ends w1_1 i_y_way w1_i_thrown w1_i_drawing a_men w1_a_does u23 w1_a_litres q_y_men mi_pace).bind fun rr27 =>
        f11_ticks_j43 i_y_hold i_y_draw w1_1 w1_i_water w1_a_litres rr27.1 rr27.2.1 rr27.2.2.1 rr27.2.2.2
      else
        f11_ticks_j43 i_y_hold i_y_draw w1_1 w1_i_water w1_a_litres w1_i_thrown w1_i_drawing w1_a_does u23

noncomputable def f11_ticks (i_y_way : Int32) (i_y_hold : Int32) (i_y_draw : Int32) (i_many : Int32) (i_water : Int32) (i_thrown : Int32) (i_drawing : Int32) (a_men : Nat → Int32) (a_does : Nat → Int32) (a_left : Nat → Int32) (a_litres : Nat → Int32) (q_y_men : Nat → Option Nat) (mi_pace : Nat → Int32) : Option (Int32 × Int32 × Int32 × (Nat → Int32) × (Nat → Int32) × (Nat → Int32)) :=
  (whl (fun (s1 : Int32 × Int32 × Int32 × Int32 × (Nat → Int32) × (Nat → Int32) × (Nat → Int32)) => f11_ticks_s1 i_y_way i_y_hold i_y_draw i_many a_men q_y_men mi_pace s1.1 s1.2.1 s1.2.2.1 s1.2.2.2.1 s1.2.2.2.2.1 s1.2.2.2.2.2.1 s1.2.2.2.2.2.2) FU ((0 : Int32), i_water, i_thrown, i_drawing, a_does, a_left, a_litres)).bind fun rl1 =>
  f11_ticks_e1_0 rl1
set_option maxHeartbeats 4000000 in
theorem m11_ticks (l : Launch) (G : gG) (K : gK) (I : gI) (J : gJ) (X : gX) (A : gI) (B : gJ) (Q : gX) (o : Nat) (y : Nat) (sh_o : Sh K X o 8 rows8) (sh_y : Sh K X y 3 rows3) (x_o_yard : X 801 o = some y)  (i_y_way : Int32) (i_y_hold : Int32) (i_y_draw : Int32) (i_many : Int32) (i_water : Int32) (i_thrown : Int32) (i_drawing : Int32) (a_men : Nat → Int32) (a_does : Nat → Int32) (a_left : Nat → Int32) (a_litres : Nat → Int32) (q_y_men : Nat → Option Nat) (mi_pace : Nat → Int32) (e_i_y_way : I 306 y = i_y_way) (e_i_y_hold : I 308 y = i_y_hold) (e_i_y_draw : I 309 y = i_y_draw) (e_i_many : I 802 o = i_many) (e_i_water : I 803 o = i_water) (e_i_thrown : I 804 o = i_thrown) (e_i_drawing : I 809 o = i_drawing) (e_a_men : A (o + 1) = a_men) (e_a_does : A (o + 2) = a_does) (e_a_left : A (o + 3) = a_left) (e_a_litres : A (o + 4) = a_litres) (e_q_y_men : Q (y + 1) = q_y_men) (e_mi_pace : I 1202 = mi_pace) (hman : ∀ (j m : Nat), q_y_men j = some m → K m = some (.inl 12)) (out : Int32 × Int32 × Int32 × (Nat → Int32) × (Nat → Int32) × (Nat → Int32)) (hf : f11_ticks i_y_way i_y_hold i_y_draw i_many i_water i_thrown i_drawing a_men a_does a_left a_litres q_y_men mi_pace = some out) : GMet l yX11_ticks cX11_ticks 2 none (2) (42) G [.ref o] K I J X A B Q none K (ov I [(803, o, out.1), (804, o, out.2.1), (809, o, out.2.2.1)]) J X (ova A [((o + 1), a_men), ((o + 2), out.2.2.2.1), ((o + 3), out.2.2.2.2.1), ((o + 4), out.2.2.2.2.2)]) B Q 0 0 := by
  refine GMet.of (y := yX11_ticks) rfl (Nat.le_of_ble_eq_true rfl) rfl ?_
  intro p e s m below meth c ls hx hb hr hml hlocks hts hown hname hG hR hl
  have hown : s.vm.findClass RX11 = some m.cls := hown
  have k_a_men : K (o + 1) = some (.inr (0, 12)) := (sh_o.2 0 _ rfl).1
  have k_a_does : K (o + 2) = some (.inr (0, 12)) := (sh_o.2 1 _ rfl).1
  have k_a_left : K (o + 3) = some (.inr (0, 12)) := (sh_o.2 2 _ rfl).1
  have k_a_litres : K (o + 4) = some (.inr (0, 12)) := (sh_o.2 3 _ rfl).1
  have k_q_y_men : K (y + 1) = some (.inr (4, 12)) := (sh_y.2 0 _ rfl).1
  have hN_A : nda [(o + 1), (o + 2), (o + 3), (o + 4)] := nd_off o [1, 2, 3, 4] rfl
  have hR : RS G K (ov I [(803, o, i_water), (804, o, i_thrown), (809, o, i_drawing)]) J X (ova A [((o + 1), a_men), ((o + 2), a_does), ((o + 3), a_left), ((o + 4), a_litres)]) B Q s.heap := hR.to (Eq.symm (ov_sc e_i_water (ov_sc e_i_thrown (ov_sc e_i_drawing rfl)))) rfl rfl (Eq.symm (ova_sc e_a_men (ova_sc e_a_does (ova_sc e_a_left (ova_sc e_a_litres rfl))))) rfl rfl
  have hS : va_S (gA G) s.heap s.heap [] := va_S.rf
  have hend : ∀ (pc : Nat) (H : Heap) (locs : List Loc) (ls : Array Slot), decode cX11_ticks pc = .ok (.return_, 1) → RS G K (ov I [(803, o, out.1), (804, o, out.2.1), (809, o, out.2.2.1)]) J X (ova A [((o + 1), a_men), ((o + 2), out.2.2.2.1), ((o + 3), out.2.2.2.2.1), ((o + 4), out.2.2.2.2.2)]) B Q H → va_S (gA G) s.heap H locs → W p l e ({ frames := 2, cells := 0, slots := 0, locals := 42 } : Room) s m ([.ref o] : List Value).toArray below meth c H locs 0 0 (MQ below (gQ G none K (ov I [(803, o, out.1), (804, o, out.2.1), (809, o, out.2.2.1)]) J X (ova A [((o + 1), a_men), ((o + 2), out.2.2.2.1), ((o + 3), out.2.2.2.2.1), ((o + 4), out.2.2.2.2.2)]) B Q) ([.ref o] : List Value).toArray s 0 0 (gA G)) (F0 m pc ls []) := fun pc H locs ls hd hR hS => g_vret hx hb hr hlocks hG hR hS rfl hd
  generalize MQ below (gQ G none K (ov I [(803, o, out.1), (804, o, out.2.1), (809, o, out.2.2.1)]) J X (ova A [((o + 1), a_men), ((o + 2), out.2.2.2.1), ((o + 3), out.2.2.2.2.1), ((o + 4), out.2.2.2.2.2)]) B Q) ([.ref o] : List Value).toArray s 0 0 (gA G) = Z at hend ⊢
  generalize ([.ref o] : List Value).toArray = args at hts hend ⊢
  unfold f11_ticks at hf
  refine lv_iconst (v := 0) hx hb dX11_ticks_0 li_0 ?_
  refine lv_istore_n (lv' := [(1, .int (0 : Int32)), (0, .ref o)]) hx hb dX11_ticks_1 rfl hl (by decide) rfl (fun ls hl => ?_)
  obtain ⟨rl1, hw1, hfo1⟩ := bind_s hf
  have hx1_0 : ∀ (x1_0 : Int32 × Int32 × Int32 × (Nat → Int32) × (Nat → Int32) × (Nat → Int32)), f11_ticks_e1_0 x1_0 = some out → ∀ (pc : Nat) (H : Heap) (locs : List Loc) (ls : Array Slot), decode cX11_ticks pc = .ok (.return_, 1) → RS G K (ov I [(803, o, x1_0.1), (804, o, x1_0.2.1), (809, o, x1_0.2.2.1)]) J X (ova A [((o + 1), a_men), ((o + 2), x1_0.2.2.2.1), ((o + 3), x1_0.2.2.2.2.1), ((o + 4), x1_0.2.2.2.2.2)]) B Q H → va_S (gA G) s.heap H locs → W p l e ({ frames := 2, cells := 0, slots := 0, locals := 42 } : Room) s m args below meth c H locs 0 0 Z (F0 m pc ls []) := by
    intro x1_0 hf pc H locs ls hd hR hS
    unfold f11_ticks_e1_0 at hf
    obtain rfl := some_i hf
    exact hend _ _ _ _ hd hR hS
  refine whl_walk (P := fun (s1 : Int32 × Int32 × Int32 × Int32 × (Nat → Int32) × (Nat → Int32) × (Nat → Int32)) => ∀ (H : Heap) (locs : List Loc) (ls : Array Slot), RS G K (ov I [(803, o, s1.2.1), (804, o, s1.2.2.1), (809, o, s1.2.2.2.1)]) J X (ova A [((o + 1), a_men), ((o + 2), s1.2.2.2.2.1), ((o + 3), s1.2.2.2.2.2.1), ((o + 4), s1.2.2.2.2.2.2)]) B Q H → va_S (gA G) s.heap H locs → lv_has ls 2 [(0, .ref o), (1, .int s1.1)] → W p l e ({ frames := 2, cells := 0, slots := 0, locals := 42 } : Room) s m args below meth c H locs 0 0 Z (F0 m 2 ls [])) (r := rl1) ?_ FU _ hw1 _ _ _ hR hS (lv_sub hl [1, 0] rfl)
  clear hR hS hl hf
  intro s1 o1 hf hk1 H locs ls hR hS hl
  obtain ⟨w1_1, w1_i_water, w1_i_thrown, w1_i_drawing, w1_a_does, w1_a_left, w1_a_litres⟩ := s1
  have hf : f11_ticks_s1 i_y_way i_y_hold i_y_draw i_many a_men q_y_men mi_pace w1_1 w1_i_water w1_i_thrown w1_i_drawing w1_a_does w1_a_left w1_a_litres = some o1 := hf
  have hR : RS G K (ov I [(803, o, w1_i_water), (804, o, w1_i_thrown), (809, o, w1_i_drawing)]) J X (ova A [((o + 1), a_men), ((o + 2), w1_a_does), ((o + 3), w1_a_left), ((o + 4), w1_a_litres)]) B Q H := hR
  have hl : lv_has ls 2 [(0, .ref o), (1, .int w1_1)] := hl
  unfold f11_ticks_s1 at hf
  refine lv_iload_n hx hb dX11_ticks_2 rfl (lv_at hl 1 rfl) ?_
  refine lv_aload_n hx hb dX11_ticks_3 rfl (lv_at hl 0 rfl) ?_
  refine n_geti (v := i_many) hx hb hts hown hG hR gFi_X11_41_8 sh_o.1 ((congrFun (ov_no rfl) _).trans e_i_many) dX11_ticks_4 ?_
  refine lv_icmp_ge (tgt := 110) hx hb dX11_ticks_7 (by decide) (fun c2 => ?_) (fun c2 => ?_)
  · have hf := ite_t c2 hf
    obtain rfl := some_i hf
    replace hk1 : _ = rl1 := hk1
    subst hk1
    exact hx1_0 (w1_i_water, w1_i_thrown, w1_i_drawing, w1_a_does, w1_a_left, w1_a_litres) hfo1 _ _ _ _ dX11_ticks_110 hR hS
  · have hf := ite_f c2 hf
    refine lv_aload_n hx hb dX11_ticks_10 rfl (lv_at hl 0 rfl) ?_
    refine g_getr (b := (o + 2)) hx hb hts hown hG hR gFx_X11_9_8 sh_o.1 ((sh_o.2 1 _ rfl).2) dX11_ticks_11 ?_
    refine lv_iload_n hx hb dX11_ticks_14 rfl (lv_at hl 1 rfl) ?_
    obtain ⟨c3, hf⟩ := gd_some hf
    obtain ⟨v4, ev4, hf⟩ := lt_some hf
    refine n_iald (x := w1_a_does) hx hb hG hR k_a_does c3 (ova_get 1 hN_A rfl) ev4 dX11_ticks_15 ?_
    have hj43 : ∀ (j43_i_thrown : Int32) (j43_i_drawing : Int32) (j43_a_does : Nat → Int32) (j43_a_left : Nat → Int32), f11_ticks_j43 i_y_hold i_y_draw w1_1 w1_i_water w1_a_litres j43_i_thrown j43_i_drawing j43_a_does j43_a_left = some o1 → ∀ (H : Heap) (locs : List Loc) (ls : Array Slot), RS G K (ov I [(803, o, w1_i_water), (804, o, j43_i_thrown), (809, o, j43_i_drawing)]) J X (ova A [((o + 1), a_men), ((o + 2), j43_a_does), ((o + 3), j43_a_left), ((o + 4), w1_a_litres)]) B Q H → va_S (gA G) s.heap H locs → lv_has ls 2 [(0, .ref o), (1, .int w1_1)] → W p l e ({ frames := 2, cells := 0, slots := 0, locals := 42 } : Room) s m args below meth c H locs 0 0 Z (F0 m 43 ls []) := by
      intro j43_i_thrown j43_i_drawing j43_a_does j43_a_left hf H locs ls hR hS hl
      unfold f11_ticks_j43 at hf
      refine lv_aload_n hx hb dX11_ticks_43 rfl (lv_at hl 0 rfl) ?_
      refine g_getr (b := (o + 2)) hx hb hts hown hG hR gFx_X11_9_8 sh_o.1 ((sh_o.2 1 _ rfl).2) dX11_ticks_44 ?_
      refine lv_iload_n hx hb dX11_ticks_47 rfl (lv_at hl 1 rfl) ?_
      obtain ⟨c5, hf⟩ := gd_some hf
      obtain ⟨v6, ev6, hf⟩ := lt_some hf
      refine n_iald (x := j43_a_does) hx hb hG hR k_a_does c5 (ova_get 1 hN_A rfl) ev6 dX11_ticks_48 ?_
      have hj104 : ∀ (j104_i_water : Int32) (j104_i_drawing : Int32) (j104_a_does : Nat → Int32) (j104_a_left : Nat → Int32) (j104_a_litres : Nat → Int32), f11_ticks_j104 w1_1 j43_i_thrown j104_i_water j104_i_drawing j104_a_does j104_a_left j104_a_litres = some o1 → ∀ (H : Heap) (locs : List Loc) (ls : Array Slot), RS G K (ov I [(803, o, j104_i_water), (804, o, j43_i_thrown), (809, o, j104_i_drawing)]) J X (ova A [((o + 1), a_men), ((o + 2), j104_a_does), ((o + 3), j104_a_left), ((o + 4), j104_a_litres)]) B Q H → va_S (gA G) s.heap H locs → lv_has ls 2 [(0, .ref o), (1, .int w1_1)] → W p l e ({ frames := 2, cells := 0, slots := 0, locals := 42 } : Room) s m args below meth c H locs 0 0 Z (F0 m 104 ls []) := by
        intro j104_i_water j104_i_drawing j104_a_does j104_a_left j104_a_litres hf H locs ls hR hS hl
        unfold f11_ticks_j104 at hf
        obtain ⟨v7, ev7, hf⟩ := lt_some hf
        refine lv_iinc (k := 1) (v := v7) (lv' := [(1, .int v7), (0, .ref o)]) hx hb dX11_ticks_104 hl rfl (by rw [ev7]; rfl) (by decide) rfl (fun ls hl => ?_)
        refine lv_goto (tgt := 2) hx hb dX11_ticks_107 (by decide) ?_
        obtain rfl := some_i hf
        exact hk1 _ _ _ hR hS (lv_sub hl [1, 0] rfl)
      refine lv_if_ne (tgt := 104) hx hb dX11_ticks_49 (by decide) (fun c8 => ?_) (fun c8 => ?_)
      · have hf := ite_f c8 hf
        exact hj104 w1_i_water j43_i_drawing j43_a_does j43_a_left w1_a_litres hf _ _ _ hR hS (lv_sub hl [0, 1] rfl)
      · have hf := ite_t c8 hf
        refine lv_aload_n hx hb dX11_ticks_52 rfl (lv_at hl 0 rfl) ?_
        refine n_geti (v := j43_i_drawing) hx hb hts hown hG hR gFi_X11_37_8 sh_o.1 (ov_get 2 rfl rfl) dX11_ticks_53 ?_
        refine lv_if_ne (tgt := 104) hx hb dX11_ticks_56 (by decide) (fun c9 => ?_) (fun c9 => ?_)
        · have hf := ite_f c9 hf
          exact hj104 w1_i_water j43_i_drawing j43_a_does j43_a_left w1_a_litres hf _ _ _ hR hS (lv_sub hl [0, 1] rfl)
        · have hf := ite_t c9 hf
          refine lv_aload_n hx hb dX11_ticks_59 rfl (lv_at hl 0 rfl) ?_
          refine n_geti (v := w1_i_water) hx hb hts hown hG hR gFi_X11_48_8 sh_o.1 (ov_get 0 rfl rfl) dX11_ticks_60 ?_
          refine lv_if_ne (tgt := 69) hx hb dX11_ticks_63 (by decide) (fun c10 => ?_) (fun c10 => ?_)
          · have hf := ite_f c10 hf
            refine lv_aload_n hx hb dX11_ticks_69 rfl (lv_at hl 0 rfl) ?_
            refine lv_iconst (v := 1) hx hb dX11_ticks_70 li_1 ?_
            refine n_putz (li' := [(803, o, w1_i_water), (804, o, j43_i_thrown), (809, o, (1 : Int32))]) hx hb hts hown hG hR hS gPz_X11_37_8 sh_o.1 nz_1 2 rfl rfl rfl dX11_ticks_71 (fun H locs hR hS => ?_)
            refine lv_aload_n hx hb dX11_ticks_74 rfl (lv_at hl 0 rfl) ?_
            refine g_getr (b := (o + 4)) hx hb hts hown hG hR gFx_X11_18_8 sh_o.1 ((sh_o.2 3 _ rfl).2) dX11_ticks_75 ?_
            refine lv_iload_n hx hb dX11_ticks_78 rfl (lv_at hl 1 rfl) ?_
            refine lv_aload_n hx hb dX11_ticks_79 rfl (lv_at hl 0 rfl) ?_
            obtain ⟨rr11, hrr11, hf⟩ := bind_s hf
            refine g0_cU (rm := (1, 21)) (As := []) (rest := [.int w1_1, .ref (o + 4)]) ⟨hx, hb, hml, hown, hts⟩ hG hR hS (m9_drawsN l G K (ov I [(803, o, w1_i_water), (804, o, j43_i_thrown), (809, o, (1 : Int32))]) J X (ova A [((o + 1), a_men), ((o + 2), j43_a_does), ((o + 3), j43_a_left), ((o + 4), w1_a_litres)]) B Q o y sh_o sh_y x_o_yard i_y_hold w1_i_water ((congrFun (ov_no rfl) _).trans e_i_y_hold) (ov_get 0 rfl rfl) rr11 hrr11) (va_cwU (x := ⟨"PailRow$Runners", "draws", "()I"⟩) (owner := "PailRow$Team") 0 hts gu_X11_51_8 rfl rfl rfl rfl ⟨by decide, by decide, (hd_X9_draws.2).2.2⟩ ⟨Nat.le_of_ble_eq_true rfl, Nat.le_of_ble_eq_true rfl⟩) sh_o.1 rfl rfl hl.1 (Nat.le_of_ble_eq_true rfl) dX11_ticks_80 ⟨Nat.le_refl _, Nat.le_refl _⟩ rfl (fun H locs hR hS => ?_)
            have hR : RS G K (ov I [(803, o, rr11.2), (804, o, j43_i_thrown), (809, o, (1 : Int32))]) J X (ova A [((o + 1), a_men), ((o + 2), j43_a_does), ((o + 3), j43_a_left), ((o + 4), w1_a_litres)]) B Q H := hR.to (ov_merge (l := [(803, o, w1_i_water), (804, o, j43_i_thrown), (809, o, (1 : Int32))]) rfl [0] [(803, o, rr11.2)] rfl rfl) rfl rfl rfl rfl rfl
            obtain ⟨c12, hf⟩ := gd_some hf
            obtain ⟨u13, eu13, hf⟩ := lt_some hf
            refine n_iast (la' := [((o + 1), a_men), ((o + 2), j43_a_does), ((o + 3), j43_a_left), ((o + 4), u13)]) hx hb hG hR hS k_a_litres c12 hN_A 3 rfl eu13 rfl dX11_ticks_83 (fun H locs hR hS => ?_)
            refine lv_aload_n hx hb dX11_ticks_84 rfl (lv_at hl 0 rfl) ?_
            refine g_getr (b := (o + 2)) hx hb hts hown hG hR gFx_X11_9_8 sh_o.1 ((sh_o.2 1 _ rfl).2) dX11_ticks_85 ?_
            refine lv_iload_n hx hb dX11_ticks_88 rfl (lv_at hl 1 rfl) ?_
            refine lv_iconst (v := 1) hx hb dX11_ticks_89 li_1 ?_
            obtain ⟨c14, hf⟩ := gd_some hf
            obtain ⟨u15, eu15, hf⟩ := lt_some hf
            refine n_iast (la' := [((o + 1), a_men), ((o + 2), u15), ((o + 3), j43_a_left), ((o + 4), u13)]) hx hb hG hR hS k_a_does c14 hN_A 1 rfl eu15 rfl dX11_ticks_90 (fun H locs hR hS => ?_)
            refine lv_aload_n hx hb dX11_ticks_91 rfl (lv_at hl 0 rfl) ?_
            refine g_getr (b := (o + 3)) hx hb hts hown hG hR gFx_X11_15_8 sh_o.1 ((sh_o.2 2 _ rfl).2) dX11_ticks_92 ?_
            refine lv_iload_n hx hb dX11_ticks_95 rfl (lv_at hl 1 rfl) ?_
            refine lv_aload_n hx hb dX11_ticks_96 rfl (lv_at hl 0 rfl) ?_
            refine g_getr (b := y) hx hb hts hown hG hR gFx_X11_55_8 sh_o.1 x_o_yard dX11_ticks_97 ?_
            refine n_geti (v := i_y_draw) hx hb hts hown hG hR gFi_X11_59_3 sh_y.1 ((congrFun (ov_no rfl) _).trans e_i_y_draw) dX11_ticks_100 ?_
            obtain ⟨c16, hf⟩ := gd_some hf
            obtain ⟨u17, eu17, hf⟩ := lt_some hf
            refine n_iast (la' := [((o + 1), a_men), ((o + 2), u15), ((o + 3), u17), ((o + 4), u13)]) hx hb hG hR hS k_a_left c16 hN_A 2 rfl eu17 rfl dX11_ticks_103 (fun H locs hR hS => ?_)
            exact hj104 rr11.2 (1 : Int32) u15 u17 u13 hf _ _ _ hR hS (lv_sub hl [0, 1] rfl)
          · have hf := ite_t c10 hf
            refine lv_goto (tgt := 104) hx hb dX11_ticks_66 (by decide) ?_
            exact hj104 w1_i_water j43_i_drawing j43_a_does j43_a_left w1_a_litres hf _ _ _ hR hS (lv_sub hl [0, 1] rfl)
    refine lv_if_eq (tgt := 43) hx hb dX11_ticks_16 (by decide) (fun c18 => ?_) (fun c18 => ?_)
    · have hf := ite_t c18 hf
      exact hj43 w1_i_thrown w1_i_drawing w1_a_does w1_a_left hf _ _ _ hR hS (lv_sub hl [0, 1] rfl)
    · have hf := ite_f c18 hf
      refine lv_aload_n hx hb dX11_ticks_19 rfl (lv_at hl 0 rfl) ?_
      refine g_getr (b := (o + 3)) hx hb hts hown hG hR gFx_X11_15_8 sh_o.1 ((sh_o.2 2 _ rfl).2) dX11_ticks_20 ?_
      refine lv_iload_n hx hb dX11_ticks_23 rfl (lv_at hl 1 rfl) ?_
      refine lv_dup2_11 hx hb dX11_ticks_24 rfl rfl ?_
      obtain ⟨c19, hf⟩ := gd_some hf
      obtain ⟨v20, ev20, hf⟩ := lt_some hf
      refine n_iald (x := w1_a_left) hx hb hG hR k_a_left c19 (ova_get 2 hN_A rfl) ev20 dX11_ticks_25 ?_
      refine lv_iconst (v := 1) hx hb dX11_ticks_26 li_1 ?_
      obtain ⟨v21, ev21, hf⟩ := lt_some hf
      refine n_isub hx hb ev21 dX11_ticks_27 ?_
      obtain ⟨c22, hf⟩ := gd_some hf
      obtain ⟨u23, eu23, hf⟩ := lt_some hf
      refine n_iast (la' := [((o + 1), a_men), ((o + 2), w1_a_does), ((o + 3), u23), ((o + 4), w1_a_litres)]) hx hb hG hR hS k_a_left c22 hN_A 2 rfl eu23 rfl dX11_ticks_28 (fun H locs hR hS => ?_)
      refine lv_aload_n hx hb dX11_ticks_29 rfl (lv_at hl 0 rfl) ?_
      refine g_getr (b := (o + 3)) hx hb hts hown hG hR gFx_X11_15_8 sh_o.1 ((sh_o.2 2 _ rfl).2) dX11_ticks_30 ?_
      refine lv_iload_n hx hb dX11_ticks_33 rfl (lv_at hl 1 rfl) ?_
      obtain ⟨c24, hf⟩ := gd_some hf
      obtain ⟨v25, ev25, hf⟩ := lt_some hf
      refine n_iald (x := u23) hx hb hG hR k_a_left c24 (ova_get 2 hN_A rfl) ev25 dX11_ticks_34 ?_
      refine lv_if_ne (tgt := 43) hx hb dX11_ticks_35 (by decide) (fun c26 => ?_) (fun c26 => ?_)
      · have hf := ite_f c26 hf
        exact hj43 w1_i_thrown w1_i_drawing w1_a_does u23 hf _ _ _ hR hS (lv_sub hl [0, 1] rfl)
      · have hf := ite_t c26 hf
        refine lv_aload_n hx hb dX11_ticks_38 rfl (lv_at hl 0 rfl) ?_
        refine lv_iload_n hx hb dX11_ticks_39 rfl (lv_at hl 1 rfl) ?_
        obtain ⟨rr27, hrr27, hf⟩ := bind_s hf
        refine g0_cVv (rm := (1, 21)) (As := [.int w1_1]) (rest := []) ⟨hx, hb, hml, hown, hts⟩ hG hR hS (m11_ends l G K (ov I [(803, o, w1_i_water), (804, o, w1_i_thrown), (809, o, w1_i_drawing)]) J X (ova A [((o + 1), a_men), ((o + 2), w1_a_does), ((o + 3), u23), ((o + 4), w1_a_litres)]) B Q o y sh_o sh_y x_o_yard w1_1 i_y_way w1_i_thrown w1_i_drawing a_men w1_a_does u23 w1_a_litres q_y_men mi_pace ((congrFun (ov_no rfl) _).trans e_i_y_way) (ov_get 1 rfl rfl) (ov_get 2 rfl rfl) (ova_get 0 hN_A rfl) (ova_get 1 hN_A rfl) (ova_get 2 hN_A rfl) (ova_get 3 hN_A rfl) e_q_y_men ((ov_no rfl).trans e_mi_pace) hman rr27 hrr27) (cwV 1 hts gi_X11_44 rfl rfl rfl hd_X11_ends ⟨Nat.le_of_ble_eq_true rfl, Nat.le_of_ble_eq_true rfl⟩) sh_o.1 rfl rfl hl.1 (Nat.le_of_ble_eq_true rfl) dX11_ticks_40 ⟨Nat.le_refl _, Nat.le_refl _⟩ rfl (fun H locs hR hS => ?_)
        have hR : RS G K (ov I [(803, o, w1_i_water), (804, o, rr27.1), (809, o, rr27.2.1)]) J X (ova A [((o + 1), a_men), ((o + 2), rr27.2.2.1), ((o + 3), rr27.2.2.2), ((o + 4), w1_a_litres)]) B Q H := hR.to (ov_merge (l := [(803, o, w1_i_water), (804, o, w1_i_thrown), (809, o, w1_i_drawing)]) rfl [1, 2] [(804, o, rr27.1), (809, o, rr27.2.1)] rfl rfl) rfl rfl (ova_merge (l := [((o + 1), a_men), ((o + 2), w1_a_does), ((o + 3), u23), ((o + 4), w1_a_litres)]) hN_A [0, 1, 2, 3] [((o + 1), a_men), ((o + 2), rr27.2.2.1), ((o + 3), rr27.2.2.2), ((o + 4), w1_a_litres)] rfl rfl) rfl rfl
        exact hj43 rr27.1 rr27.2.1 rr27.2.2.1 rr27.2.2.2 hf _ _ _ hR hS (lv_sub hl [0, 1] rfl)
noncomputable def f9_goesR_e1_0 (i_thrown : Int32) (x1_0 : Int32 × Int32 × Int32 × Int32 × Int32 × Int32 × Int32 × Int32 × (Nat → Int32) × (Nat → Int32) × (Nat → Int32) × (Nat → Int32) × (Nat → Int32) × (Nat → Int32) × (Nat → Int32) × (Nat → Nat → Int32)) : Option (Int32 × Int32 × Int32 × Int32 × Int32 × Int32 × Int32 × Int32 × Int32 × (Nat → Int32) × (Nat → Int32) × (Nat → Int32) × (Nat → Int32) × (Nat → Int32) × (Nat → Int32) × (Nat → Int32) × (Nat → Nat → Int32)) :=
  lt (x1_0.2.1 - i_thrown) fun v2 =>
  some (v2, x1_0.1, x1_0.2.1, x1_0.2.2.1, x1_0.2.2.2.1, x1_0.2.2.2.2.1, x1_0.2.2.2.2.2.1, x1_0.2.2.2.2.2.2.1, x1_0.2.2.2.2.2.2.2.1, x1_0.2.2.2.2.2.2.2.2.1, x1_0.2.2.2.2.2.2.2.2.2.1, x1_0.2.2.2.2.2.2.2.2.2.2.1, x1_0.2.2.2.2.2.2.2.2.2.2.2.1, x1_0.2.2.2.2.2.2.2.2.2.2.2.2.1, x1_0.2.2.2.2.2.2.2.2.2.2.2.2.2.1, x1_0.2.2.2.2.2.2.2.2.2.2.2.2.2.2.1, x1_0.2.2.2.2.2.2.2.2.2.2.2.2.2.2.2)

noncomputable def f9_goesR_s1 (p1 : Int32) (i_y_way : Int32) (i_y_hold : Int32) (i_y_draw : Int32) (i_y_spill : Int32) (i_y_back : Int32) (i_y_thrown : Int32) (i_many : Int32) (a_men : Nat → Int32) (q_y_men : Nat → Option Nat) (mi_hand : Nat → Int32) (mi_power : Nat → Int32) (w1_3 : Int32) (w1_i_water : Int32) (w1_i_thrown : Int32) (w1_i_tick : Int32) (w1_i_empties : Int32) (w1_i_backFirst : Int32) (w1_i_backMany : Int32) (w1_i_drawn : Int32) (w1_i_spilt : Int32) (w1_a_done : Nat → Int32) (w1_a_busy : Nat → Int32) (w1_a_litres : Nat → Int32) (w1_a_stands : Nat → Int32) (w1_a_first : Nat → Int32) (w1_a_heaps : Nat → Int32) (w1_a_backs : Nat → Int32) (w1_g_pails : Nat → Nat → Int32) : Option ((Int32 × Int32 × Int32 × Int32 × Int32 × Int32 × Int32 × Int32 × Int32 × (Nat → Int32) × (Nat → Int32) × (Nat → Int32) × (Nat → Int32) × (Nat → Int32) × (Nat → Int32) × (Nat → Int32) × (Nat → Nat → Int32)) ⊕ (Int32 × Int32 × Int32 × Int32 × Int32 × Int32 × Int32 × Int32 × (Nat → Int32) × (Nat → Int32) × (Nat → Int32) × (Nat → Int32) × (Nat → Int32) × (Nat → Int32) × (Nat → Int32) × (Nat → Nat → Int32))) :=
  if p1 ≤ w1_3 then
    some (.inr (w1_i_water, w1_i_thrown, w1_i_tick, w1_i_empties, w1_i_backFirst, w1_i_backMany, w1_i_drawn, w1_i_spilt, w1_a_done, w1_a_busy, w1_a_litres, w1_a_stands, w1_a_first, w1_a_heaps, w1_a_backs, w1_g_pails))
  else
    lt (w1_i_tick + (1 : Int32)) fun v4 =>
    (f10_ticks i_y_way i_y_hold i_y_draw i_y_spill i_y_back i_y_thrown i_many w1_i_water w1_i_thrown v4 w1_i_empties w1_i_backFirst w1_i_backMany w1_i_drawn w1_i_spilt a_men w1_a_done w1_a_busy w1_a_litres w1_a_stands w1_a_first w1_a_heaps w1_a_backs q_y_men mi_hand mi_power w1_g_pails).bind fun rr5 =>
    lt (w1_3 + (1 : Int32)) fun v6 =>
    some (.inl (v6, rr5.1, rr5.2.1, v4, rr5.2.2.1, rr5.2.2.2.1, rr5.2.2.2.2.1, rr5.2.2.2.2.2.1, rr5.2.2.2.2.2.2.1, rr5.2.2.2.2.2.2.2.1, rr5.2.2.2.2.2.2.2.2.1, rr5.2.2.2.2.2.2.2.2.2.1, rr5.2.2.2.2.2.2.2.2.2.2.1, rr5.2.2.2.2.2.2.2.2.2.2.2.1, rr5.2.2.2.2.2.2.2.2.2.2.2.2.1, rr5.2.2.2.2.2.2.2.2.2.2.2.2.2.1, rr5.2.2.2.2.2.2.2.2.2.2.2.2.2.2))

noncomputable def f9_goesR (p1 : Int32) (i_y_way : Int32) (i_y_hold : Int32) (i_y_draw : Int32) (i_y_spill : Int32) (i_y_back : Int32) (i_y_thrown : Int32) (i_many : Int32) (i_water : Int32) (i_thrown : Int32) (i_tick : Int32) (i_empties : Int32) (i_backFirst : Int32) (i_backMany : Int32) (i_drawn : Int32) (i_spilt : Int32) (a_men : Nat → Int32) (a_done : Nat → Int32) (a_busy : Nat → Int32) (a_litres : Nat → Int32) (a_stands : Nat → Int32) (a_first : Nat → Int32) (a_heaps : Nat → Int32) (a_backs : Nat → Int32) (q_y_men : Nat → Option Nat) (mi_hand : Nat → Int32) (mi_power : Nat → Int32) (g_pails : Nat → Nat → Int32) : Option (Int32 × Int32 × Int32 × Int32 × Int32 × Int32 × Int32 × Int32 × Int32 × (Nat → Int32) × (Nat → Int32) × (Nat → Int32) × (Nat → Int32) × (Nat → Int32) × (Nat → Int32) × (Nat → Int32) × (Nat → Nat → Int32)) :=
  (whl (fun (s1 : Int32 × Int32 × Int32 × Int32 × Int32 × Int32 × Int32 × Int32 × Int32 × (Nat → Int32) × (Nat → Int32) × (Nat → Int32) × (Nat → Int32) × (Nat → Int32) × (Nat → Int32) × (Nat → Int32) × (Nat → Nat → Int32)) => f9_goesR_s1 p1 i_y_way i_y_hold i_y_draw i_y_spill i_y_back i_y_thrown i_many a_men q_y_men mi_hand mi_power s1.1 s1.2.1 s1.2.2.1 s1.2.2.2.1 s1.2.2.2.2.1 s1.2.2.2.2.2.1 s1.2.2.2.2.2.2.1 s1.2.2.2.2.2.2.2.1 s1.2.2.2.2.2.2.2.2.1 s1.2.2.2.2.2.2.2.2.2.1 s1.2.2.2.2.2.2.2.2.2.2.1 s1.2.2.2.2.2.2.2.2.2.2.2.1 s1.2.2.2.2.2.2.2.2.2.2.2.2.1 s1.2.2.2.2.2.2.2.2.2.2.2.2.2.1 s1.2.2.2.2.2.2.2.2.2.2.2.2.2.2.1 s1.2.2.2.2.2.2.2.2.2.2.2.2.2.2.2.1 s1.2.2.2.2.2.2.2.2.2.2.2.2.2.2.2.2) FU ((0 : Int32), i_water, i_thrown, i_tick, i_empties, i_backFirst, i_backMany, i_drawn, i_spilt, a_done, a_busy, a_litres, a_stands, a_first, a_heaps, a_backs, g_pails)).bind fun rl1 =>
  f9_goesR_e1_0 i_thrown rl1
set_option maxHeartbeats 4000000 in
theorem m9_goesR (l : Launch) (G : gG) (K : gK) (I : gI) (J : gJ) (X : gX) (A : gI) (B : gJ) (Q : gX) (o : Nat) (y : Nat) (sh_o : Sh K X o 7 rows7) (sh_y : Sh K X y 3 rows3) (x_o_yard : X 701 o = some y) (shG : ∀ j, j < 12 → K (o + 9 + j) = some (.inr (0, 30)) ∧ Q (o + 8) j = some (o + 9 + j)) (p1 : Int32) (i_y_way : Int32) (i_y_hold : Int32) (i_y_draw : Int32) (i_y_spill : Int32) (i_y_back : Int32) (i_y_thrown : Int32) (i_many : Int32) (i_water : Int32) (i_thrown : Int32) (i_tick : Int32) (i_empties : Int32) (i_backFirst : Int32) (i_backMany : Int32) (i_drawn : Int32) (i_spilt : Int32) (a_men : Nat → Int32) (a_done : Nat → Int32) (a_busy : Nat → Int32) (a_litres : Nat → Int32) (a_stands : Nat → Int32) (a_first : Nat → Int32) (a_heaps : Nat → Int32) (a_backs : Nat → Int32) (q_y_men : Nat → Option Nat) (mi_hand : Nat → Int32) (mi_power : Nat → Int32) (g_pails : Nat → Nat → Int32) (e_i_y_way : I 306 y = i_y_way) (e_i_y_hold : I 308 y = i_y_hold) (e_i_y_draw : I 309 y = i_y_draw) (e_i_y_spill : I 311 y = i_y_spill) (e_i_y_back : I 312 y = i_y_back) (e_i_y_thrown : I 313 y = i_y_thrown) (e_i_many : I 702 o = i_many) (e_i_water : I 703 o = i_water) (e_i_thrown : I 704 o = i_thrown) (e_i_tick : I 705 o = i_tick) (e_i_empties : I 714 o = i_empties) (e_i_backFirst : I 715 o = i_backFirst) (e_i_backMany : I 716 o = i_backMany) (e_i_drawn : I 717 o = i_drawn) (e_i_spilt : I 718 o = i_spilt) (e_a_men : A (o + 1) = a_men) (e_a_done : A (o + 2) = a_done) (e_a_busy : A (o + 3) = a_busy) (e_a_litres : A (o + 4) = a_litres) (e_a_stands : A (o + 5) = a_stands) (e_a_first : A (o + 6) = a_first) (e_a_heaps : A (o + 7) = a_heaps) (e_a_backs : A (o + 21) = a_backs) (e_q_y_men : Q (y + 1) = q_y_men) (e_mi_hand : I 1201 = mi_hand) (e_mi_power : I 1203 = mi_power) (e_g_pails : ∀ j, j < 12 → A (o + 9 + j) = g_pails j) (hman : ∀ (j m : Nat), q_y_men j = some m → K m = some (.inl 12)) (out : Int32 × Int32 × Int32 × Int32 × Int32 × Int32 × Int32 × Int32 × Int32 × (Nat → Int32) × (Nat → Int32) × (Nat → Int32) × (Nat → Int32) × (Nat → Int32) × (Nat → Int32) × (Nat → Int32) × (Nat → Nat → Int32)) (hf : f9_goesR p1 i_y_way i_y_hold i_y_draw i_y_spill i_y_back i_y_thrown i_many i_water i_thrown i_tick i_empties i_backFirst i_backMany i_drawn i_spilt a_men a_done a_busy a_litres a_stands a_first a_heaps a_backs q_y_men mi_hand mi_power g_pails = some out) : GMet l yX9_goes cX9_goes 4 (some .int) (4) (85) G [.ref o, .int p1] K I J X A B Q (some (.int out.1)) K (ov I [(703, o, out.2.1), (704, o, out.2.2.1), (705, o, out.2.2.2.1), (714, o, out.2.2.2.2.1), (715, o, out.2.2.2.2.2.1), (716, o, out.2.2.2.2.2.2.1), (717, o, out.2.2.2.2.2.2.2.1), (718, o, out.2.2.2.2.2.2.2.2.1)]) J X (ova (ovg A (o + 9) 12 out.2.2.2.2.2.2.2.2.2.2.2.2.2.2.2.2) [((o + 1), a_men), ((o + 2), out.2.2.2.2.2.2.2.2.2.1), ((o + 3), out.2.2.2.2.2.2.2.2.2.2.1), ((o + 4), out.2.2.2.2.2.2.2.2.2.2.2.1), ((o + 5), out.2.2.2.2.2.2.2.2.2.2.2.2.1), ((o + 6), out.2.2.2.2.2.2.2.2.2.2.2.2.2.1), ((o + 7), out.2.2.2.2.2.2.2.2.2.2.2.2.2.2.1), ((o + 21), out.2.2.2.2.2.2.2.2.2.2.2.2.2.2.2.1)]) B Q 0 0 := by
  refine GMet.of (y := yX9_goes) rfl (Nat.le_of_ble_eq_true rfl) rfl ?_
  intro p e s m below meth c ls hx hb hr hml hlocks hts hown hname hG hR hl
  have hown : s.vm.findClass RX9 = some m.cls := hown
  have k_a_men : K (o + 1) = some (.inr (0, 12)) := (sh_o.2 0 _ rfl).1
  have k_a_done : K (o + 2) = some (.inr (0, 12)) := (sh_o.2 1 _ rfl).1
  have k_a_busy : K (o + 3) = some (.inr (0, 12)) := (sh_o.2 2 _ rfl).1
  have k_a_litres : K (o + 4) = some (.inr (0, 12)) := (sh_o.2 3 _ rfl).1
  have k_a_stands : K (o + 5) = some (.inr (0, 12)) := (sh_o.2 4 _ rfl).1
  have k_a_first : K (o + 6) = some (.inr (0, 12)) := (sh_o.2 5 _ rfl).1
  have k_a_heaps : K (o + 7) = some (.inr (0, 12)) := (sh_o.2 6 _ rfl).1
  have k_a_backs : K (o + 21) = some (.inr (0, 30)) := (sh_o.2 8 _ rfl).1
  have k_q_y_men : K (y + 1) = some (.inr (4, 12)) := (sh_y.2 0 _ rfl).1
  have hN_A : nda [(o + 1), (o + 2), (o + 3), (o + 4), (o + 5), (o + 6), (o + 7), (o + 21)] := nd_off o [1, 2, 3, 4, 5, 6, 7, 21] rfl
  have hR : RS G K (ov I [(703, o, i_water), (704, o, i_thrown), (705, o, i_tick), (714, o, i_empties), (715, o, i_backFirst), (716, o, i_backMany), (717, o, i_drawn), (718, o, i_spilt)]) J X (ova (ovg A (o + 9) 12 g_pails) [((o + 1), a_men), ((o + 2), a_done), ((o + 3), a_busy), ((o + 4), a_litres), ((o + 5), a_stands), ((o + 6), a_first), ((o + 7), a_heaps), ((o + 21), a_backs)]) B Q s.heap := hR.to (Eq.symm (ov_sc e_i_water (ov_sc e_i_thrown (ov_sc e_i_tick (ov_sc e_i_empties (ov_sc e_i_backFirst (ov_sc e_i_backMany (ov_sc e_i_drawn (ov_sc e_i_spilt rfl))))))))) rfl rfl (Eq.trans (Eq.symm (ova_sc e_a_men (ova_sc e_a_done (ova_sc e_a_busy (ova_sc e_a_litres (ova_sc e_a_stands (ova_sc e_a_first (ova_sc e_a_heaps (ova_sc e_a_backs rfl))))))))) (congrArg (fun z => ova z [((o + 1), a_men), ((o + 2), a_done), ((o + 3), a_busy), ((o + 4), a_litres), ((o + 5), a_stands), ((o + 6), a_first), ((o + 7), a_heaps), ((o + 21), a_backs)]) (Eq.symm (ovg_self e_g_pails)))) rfl rfl
  have hS : va_S (gA G) s.heap s.heap [] := va_S.rf
  have hend : ∀ (pc : Nat) (H : Heap) (locs : List Loc) (ls : Array Slot), decode cX9_goes pc = .ok (.ireturn, 1) → RS G K (ov I [(703, o, out.2.1), (704, o, out.2.2.1), (705, o, out.2.2.2.1), (714, o, out.2.2.2.2.1), (715, o, out.2.2.2.2.2.1), (716, o, out.2.2.2.2.2.2.1), (717, o, out.2.2.2.2.2.2.2.1), (718, o, out.2.2.2.2.2.2.2.2.1)]) J X (ova (ovg A (o + 9) 12 out.2.2.2.2.2.2.2.2.2.2.2.2.2.2.2.2) [((o + 1), a_men), ((o + 2), out.2.2.2.2.2.2.2.2.2.1), ((o + 3), out.2.2.2.2.2.2.2.2.2.2.1), ((o + 4), out.2.2.2.2.2.2.2.2.2.2.2.1), ((o + 5), out.2.2.2.2.2.2.2.2.2.2.2.2.1), ((o + 6), out.2.2.2.2.2.2.2.2.2.2.2.2.2.1), ((o + 7), out.2.2.2.2.2.2.2.2.2.2.2.2.2.2.1), ((o + 21), out.2.2.2.2.2.2.2.2.2.2.2.2.2.2.2.1)]) B Q H → va_S (gA G) s.heap H locs → W p l e ({ frames := 4, cells := 0, slots := 0, locals := 85 } : Room) s m ([.ref o, .int p1] : List Value).toArray below meth c H locs 0 0 (MQ below (gQ G (some (.int out.1)) K (ov I [(703, o, out.2.1), (704, o, out.2.2.1), (705, o, out.2.2.2.1), (714, o, out.2.2.2.2.1), (715, o, out.2.2.2.2.2.1), (716, o, out.2.2.2.2.2.2.1), (717, o, out.2.2.2.2.2.2.2.1), (718, o, out.2.2.2.2.2.2.2.2.1)]) J X (ova (ovg A (o + 9) 12 out.2.2.2.2.2.2.2.2.2.2.2.2.2.2.2.2) [((o + 1), a_men), ((o + 2), out.2.2.2.2.2.2.2.2.2.1), ((o + 3), out.2.2.2.2.2.2.2.2.2.2.1), ((o + 4), out.2.2.2.2.2.2.2.2.2.2.2.1), ((o + 5), out.2.2.2.2.2.2.2.2.2.2.2.2.1), ((o + 6), out.2.2.2.2.2.2.2.2.2.2.2.2.2.1), ((o + 7), out.2.2.2.2.2.2.2.2.2.2.2.2.2.2.1), ((o + 21), out.2.2.2.2.2.2.2.2.2.2.2.2.2.2.2.1)]) B Q) ([.ref o, .int p1] : List Value).toArray s 0 0 (gA G)) (F0 m pc ls [.int out.1]) := fun pc H locs ls hd hR hS => g_iret hx hb hr hlocks hG hR hS rfl hd
  generalize MQ below (gQ G (some (.int out.1)) K (ov I [(703, o, out.2.1), (704, o, out.2.2.1), (705, o, out.2.2.2.1), (714, o, out.2.2.2.2.1), (715, o, out.2.2.2.2.2.1), (716, o, out.2.2.2.2.2.2.1), (717, o, out.2.2.2.2.2.2.2.1), (718, o, out.2.2.2.2.2.2.2.2.1)]) J X (ova (ovg A (o + 9) 12 out.2.2.2.2.2.2.2.2.2.2.2.2.2.2.2.2) [((o + 1), a_men), ((o + 2), out.2.2.2.2.2.2.2.2.2.1), ((o + 3), out.2.2.2.2.2.2.2.2.2.2.1), ((o + 4), out.2.2.2.2.2.2.2.2.2.2.2.1), ((o + 5), out.2.2.2.2.2.2.2.2.2.2.2.2.1), ((o + 6), out.2.2.2.2.2.2.2.2.2.2.2.2.2.1), ((o + 7), out.2.2.2.2.2.2.2.2.2.2.2.2.2.2.1), ((o + 21), out.2.2.2.2.2.2.2.2.2.2.2.2.2.2.2.1)]) B Q) ([.ref o, .int p1] : List Value).toArray s 0 0 (gA G) = Z at hend ⊢
  generalize ([.ref o, .int p1] : List Value).toArray = args at hts hend ⊢
  unfold f9_goesR at hf
  refine lv_aload_n hx hb dX9_goes_0 rfl (lv_at hl 0 rfl) ?_
  refine n_geti (v := i_thrown) hx hb hts hown hG hR gFi_X9_32_7 sh_o.1 (ov_get 1 rfl rfl) dX9_goes_1 ?_
  refine lv_istore_n (lv' := [(2, .int i_thrown), (0, .ref o), (1, .int p1)]) hx hb dX9_goes_4 rfl hl (by decide) rfl (fun ls hl => ?_)
  refine lv_iconst (v := 0) hx hb dX9_goes_5 li_0 ?_
  refine lv_istore_n (lv' := [(3, .int (0 : Int32)), (2, .int i_thrown), (0, .ref o), (1, .int p1)]) hx hb dX9_goes_6 rfl hl (by decide) rfl (fun ls hl => ?_)
  obtain ⟨rl1, hw1, hfo1⟩ := bind_s hf
  have hx1_0 : ∀ (x1_0 : Int32 × Int32 × Int32 × Int32 × Int32 × Int32 × Int32 × Int32 × (Nat → Int32) × (Nat → Int32) × (Nat → Int32) × (Nat → Int32) × (Nat → Int32) × (Nat → Int32) × (Nat → Int32) × (Nat → Nat → Int32)), f9_goesR_e1_0 i_thrown x1_0 = some out → ∀ (H : Heap) (locs : List Loc) (ls : Array Slot), RS G K (ov I [(703, o, x1_0.1), (704, o, x1_0.2.1), (705, o, x1_0.2.2.1), (714, o, x1_0.2.2.2.1), (715, o, x1_0.2.2.2.2.1), (716, o, x1_0.2.2.2.2.2.1), (717, o, x1_0.2.2.2.2.2.2.1), (718, o, x1_0.2.2.2.2.2.2.2.1)]) J X (ova (ovg A (o + 9) 12 x1_0.2.2.2.2.2.2.2.2.2.2.2.2.2.2.2) [((o + 1), a_men), ((o + 2), x1_0.2.2.2.2.2.2.2.2.1), ((o + 3), x1_0.2.2.2.2.2.2.2.2.2.1), ((o + 4), x1_0.2.2.2.2.2.2.2.2.2.2.1), ((o + 5), x1_0.2.2.2.2.2.2.2.2.2.2.2.1), ((o + 6), x1_0.2.2.2.2.2.2.2.2.2.2.2.2.1), ((o + 7), x1_0.2.2.2.2.2.2.2.2.2.2.2.2.2.1), ((o + 21), x1_0.2.2.2.2.2.2.2.2.2.2.2.2.2.2.1)]) B Q H → va_S (gA G) s.heap H locs → lv_has ls 4 [(0, .ref o), (2, .int i_thrown)] → W p l e ({ frames := 4, cells := 0, slots := 0, locals := 85 } : Room) s m args below meth c H locs 0 0 Z (F0 m 32 ls []) := by
    intro x1_0 hf H locs ls hR hS hl
    unfold f9_goesR_e1_0 at hf
    refine lv_aload_n hx hb dX9_goes_32 rfl (lv_at hl 0 rfl) ?_
    refine n_geti (v := x1_0.2.1) hx hb hts hown hG hR gFi_X9_32_7 sh_o.1 (ov_get 1 rfl rfl) dX9_goes_33 ?_
    refine lv_iload_n hx hb dX9_goes_36 rfl (lv_at hl 1 rfl) ?_
    obtain ⟨v2, ev2, hf⟩ := lt_some hf
    refine n_isub hx hb ev2 dX9_goes_37 ?_
    obtain rfl := some_i hf
    exact hend _ _ _ _ dX9_goes_38 hR hS
  refine whl_walk (P := fun (s1 : Int32 × Int32 × Int32 × Int32 × Int32 × Int32 × Int32 × Int32 × Int32 × (Nat → Int32) × (Nat → Int32) × (Nat → Int32) × (Nat → Int32) × (Nat → Int32) × (Nat → Int32) × (Nat → Int32) × (Nat → Nat → Int32)) => ∀ (H : Heap) (locs : List Loc) (ls : Array Slot), RS G K (ov I [(703, o, s1.2.1), (704, o, s1.2.2.1), (705, o, s1.2.2.2.1), (714, o, s1.2.2.2.2.1), (715, o, s1.2.2.2.2.2.1), (716, o, s1.2.2.2.2.2.2.1), (717, o, s1.2.2.2.2.2.2.2.1), (718, o, s1.2.2.2.2.2.2.2.2.1)]) J X (ova (ovg A (o + 9) 12 s1.2.2.2.2.2.2.2.2.2.2.2.2.2.2.2.2) [((o + 1), a_men), ((o + 2), s1.2.2.2.2.2.2.2.2.2.1), ((o + 3), s1.2.2.2.2.2.2.2.2.2.2.1), ((o + 4), s1.2.2.2.2.2.2.2.2.2.2.2.1), ((o + 5), s1.2.2.2.2.2.2.2.2.2.2.2.2.1), ((o + 6), s1.2.2.2.2.2.2.2.2.2.2.2.2.2.1), ((o + 7), s1.2.2.2.2.2.2.2.2.2.2.2.2.2.2.1), ((o + 21), s1.2.2.2.2.2.2.2.2.2.2.2.2.2.2.2.1)]) B Q H → va_S (gA G) s.heap H locs → lv_has ls 4 [(0, .ref o), (1, .int p1), (2, .int i_thrown), (3, .int s1.1)] → W p l e ({ frames := 4, cells := 0, slots := 0, locals := 85 } : Room) s m args below meth c H locs 0 0 Z (F0 m 7 ls [])) (r := rl1) ?_ FU _ hw1 _ _ _ hR hS (lv_sub hl [2, 3, 1, 0] rfl)
  clear hR hS hl hf
  intro s1 o1 hf hk1 H locs ls hR hS hl
  obtain ⟨w1_3, w1_i_water, w1_i_thrown, w1_i_tick, w1_i_empties, w1_i_backFirst, w1_i_backMany, w1_i_drawn, w1_i_spilt, w1_a_done, w1_a_busy, w1_a_litres, w1_a_stands, w1_a_first, w1_a_heaps, w1_a_backs, w1_g_pails⟩ := s1
  have hf : f9_goesR_s1 p1 i_y_way i_y_hold i_y_draw i_y_spill i_y_back i_y_thrown i_many a_men q_y_men mi_hand mi_power w1_3 w1_i_water w1_i_thrown w1_i_tick w1_i_empties w1_i_backFirst w1_i_backMany w1_i_drawn w1_i_spilt w1_a_done w1_a_busy w1_a_litres w1_a_stands w1_a_first w1_a_heaps w1_a_backs w1_g_pails = some o1 := hf
  have hR : RS G K (ov I [(703, o, w1_i_water), (704, o, w1_i_thrown), (705, o, w1_i_tick), (714, o, w1_i_empties), (715, o, w1_i_backFirst), (716, o, w1_i_backMany), (717, o, w1_i_drawn), (718, o, w1_i_spilt)]) J X (ova (ovg A (o + 9) 12 w1_g_pails) [((o + 1), a_men), ((o + 2), w1_a_done), ((o + 3), w1_a_busy), ((o + 4), w1_a_litres), ((o + 5), w1_a_stands), ((o + 6), w1_a_first), ((o + 7), w1_a_heaps), ((o + 21), w1_a_backs)]) B Q H := hR
  have hl : lv_has ls 4 [(0, .ref o), (1, .int p1), (2, .int i_thrown), (3, .int w1_3)] := hl
  unfold f9_goesR_s1 at hf
  refine lv_iload_n hx hb dX9_goes_7 rfl (lv_at hl 3 rfl) ?_
  refine lv_iload_n hx hb dX9_goes_8 rfl (lv_at hl 1 rfl) ?_
  refine lv_icmp_ge (tgt := 32) hx hb dX9_goes_9 (by decide) (fun c3 => ?_) (fun c3 => ?_)
  · have hf := ite_t c3 hf
    obtain rfl := some_i hf
    replace hk1 : _ = rl1 := hk1
    subst hk1
    exact hx1_0 (w1_i_water, w1_i_thrown, w1_i_tick, w1_i_empties, w1_i_backFirst, w1_i_backMany, w1_i_drawn, w1_i_spilt, w1_a_done, w1_a_busy, w1_a_litres, w1_a_stands, w1_a_first, w1_a_heaps, w1_a_backs, w1_g_pails) hfo1 _ _ _ hR hS (lv_sub hl [0, 2] rfl)
  · have hf := ite_f c3 hf
    refine lv_aload_n hx hb dX9_goes_12 rfl (lv_at hl 0 rfl) ?_
    refine lv_dup hx hb dX9_goes_13 rfl ?_
    refine n_geti (v := w1_i_tick) hx hb hts hown hG hR gFi_X9_35_7 sh_o.1 (ov_get 2 rfl rfl) dX9_goes_14 ?_
    refine lv_iconst (v := 1) hx hb dX9_goes_17 li_1 ?_
    obtain ⟨v4, ev4, hf⟩ := lt_some hf
    refine n_iadd hx hb ev4 dX9_goes_18 ?_
    refine n_puti (li' := [(703, o, w1_i_water), (704, o, w1_i_thrown), (705, o, v4), (714, o, w1_i_empties), (715, o, w1_i_backFirst), (716, o, w1_i_backMany), (717, o, w1_i_drawn), (718, o, w1_i_spilt)]) hx hb hts hown hG hR hS gPi_X9_35_7 sh_o.1 2 rfl rfl rfl dX9_goes_19 (fun H locs hR hS => ?_)
    refine lv_aload_n hx hb dX9_goes_22 rfl (lv_at hl 0 rfl) ?_
    obtain ⟨rr5, hrr5, hf⟩ := bind_s hf
    refine g0_cUv (rm := (3, 64)) (As := []) (rest := []) ⟨hx, hb, hml, hown, hts⟩ hG hR hS (m10_ticks l G K (ov I [(703, o, w1_i_water), (704, o, w1_i_thrown), (705, o, v4), (714, o, w1_i_empties), (715, o, w1_i_backFirst), (716, o, w1_i_backMany), (717, o, w1_i_drawn), (718, o, w1_i_spilt)]) J X (ova (ovg A (o + 9) 12 w1_g_pails) [((o + 1), a_men), ((o + 2), w1_a_done), ((o + 3), w1_a_busy), ((o + 4), w1_a_litres), ((o + 5), w1_a_stands), ((o + 6), w1_a_first), ((o + 7), w1_a_heaps), ((o + 21), w1_a_backs)]) B Q o y sh_o sh_y x_o_yard shG i_y_way i_y_hold i_y_draw i_y_spill i_y_back i_y_thrown i_many w1_i_water w1_i_thrown v4 w1_i_empties w1_i_backFirst w1_i_backMany w1_i_drawn w1_i_spilt a_men w1_a_done w1_a_busy w1_a_litres w1_a_stands w1_a_first w1_a_heaps w1_a_backs q_y_men mi_hand mi_power w1_g_pails ((congrFun (ov_no rfl) _).trans e_i_y_way) ((congrFun (ov_no rfl) _).trans e_i_y_hold) ((congrFun (ov_no rfl) _).trans e_i_y_draw) ((congrFun (ov_no rfl) _).trans e_i_y_spill) ((congrFun (ov_no rfl) _).trans e_i_y_back) ((congrFun (ov_no rfl) _).trans e_i_y_thrown) ((congrFun (ov_no rfl) _).trans e_i_many) (ov_get 0 rfl rfl) (ov_get 1 rfl rfl) (ov_get 2 rfl rfl) (ov_get 3 rfl rfl) (ov_get 4 rfl rfl) (ov_get 5 rfl rfl) (ov_get 6 rfl rfl) (ov_get 7 rfl rfl) (ova_get 0 hN_A rfl) (ova_get 1 hN_A rfl) (ova_get 2 hN_A rfl) (ova_get 3 hN_A rfl) (ova_get 4 hN_A rfl) (ova_get 5 hN_A rfl) (ova_get 6 hN_A rfl) (ova_get 7 hN_A rfl) e_q_y_men ((ov_no rfl).trans e_mi_hand) ((ov_no rfl).trans e_mi_power) (fun j hj => (ova_no (by show o + 9 + j ∉ [(o + 1), (o + 2), (o + 3), (o + 4), (o + 5), (o + 6), (o + 7), (o + 21)]; simp only [List.mem_cons, List.not_mem_nil, or_false, not_or]; omega)).trans (ovg_get hj)) hman rr5 hrr5) (va_cwA (x := ⟨"PailRow$Team", "ticks", "()V"⟩) (owner := "PailRow$Team") 0 hts gu_X9_43_7 rfl rfl rfl (hG.2 _ q1150 rfl) ⟨by decide, by decide, (hd_X10_ticks.2).2.2⟩ ⟨Nat.le_of_ble_eq_true rfl, Nat.le_of_ble_eq_true rfl⟩) sh_o.1 rfl rfl hl.1 (Nat.le_of_ble_eq_true rfl) dX9_goes_23 ⟨Nat.le_refl _, Nat.le_refl _⟩ rfl (fun H locs hR hS => ?_)
    have hR : RS G K (ov I [(703, o, rr5.1), (704, o, rr5.2.1), (705, o, v4), (714, o, rr5.2.2.1), (715, o, rr5.2.2.2.1), (716, o, rr5.2.2.2.2.1), (717, o, rr5.2.2.2.2.2.1), (718, o, rr5.2.2.2.2.2.2.1)]) J X (ova (ovg A (o + 9) 12 rr5.2.2.2.2.2.2.2.2.2.2.2.2.2.2) [((o + 1), a_men), ((o + 2), rr5.2.2.2.2.2.2.2.1), ((o + 3), rr5.2.2.2.2.2.2.2.2.1), ((o + 4), rr5.2.2.2.2.2.2.2.2.2.1), ((o + 5), rr5.2.2.2.2.2.2.2.2.2.2.1), ((o + 6), rr5.2.2.2.2.2.2.2.2.2.2.2.1), ((o + 7), rr5.2.2.2.2.2.2.2.2.2.2.2.2.1), ((o + 21), rr5.2.2.2.2.2.2.2.2.2.2.2.2.2.1)]) B Q H := hR.to (ov_merge (l := [(703, o, w1_i_water), (704, o, w1_i_thrown), (705, o, v4), (714, o, w1_i_empties), (715, o, w1_i_backFirst), (716, o, w1_i_backMany), (717, o, w1_i_drawn), (718, o, w1_i_spilt)]) rfl [0, 1, 3, 4, 5, 6, 7] [(703, o, rr5.1), (704, o, rr5.2.1), (714, o, rr5.2.2.1), (715, o, rr5.2.2.2.1), (716, o, rr5.2.2.2.2.1), (717, o, rr5.2.2.2.2.2.1), (718, o, rr5.2.2.2.2.2.2.1)] rfl rfl) rfl rfl ((congrArg (fun z => ova z [((o + 1), a_men), ((o + 2), rr5.2.2.2.2.2.2.2.1), ((o + 3), rr5.2.2.2.2.2.2.2.2.1), ((o + 4), rr5.2.2.2.2.2.2.2.2.2.1), ((o + 5), rr5.2.2.2.2.2.2.2.2.2.2.1), ((o + 6), rr5.2.2.2.2.2.2.2.2.2.2.2.1), ((o + 7), rr5.2.2.2.2.2.2.2.2.2.2.2.2.1), ((o + 21), rr5.2.2.2.2.2.2.2.2.2.2.2.2.2.1)]) (ovg_merge (by exact List.forall_mem_cons.mpr ⟨(by show ¬ (o + 9 ≤ (o + 1) ∧ (o + 1) < o + 9 + 12); omega), List.forall_mem_cons.mpr ⟨(by show ¬ (o + 9 ≤ (o + 2) ∧ (o + 2) < o + 9 + 12); omega), List.forall_mem_cons.mpr ⟨(by show ¬ (o + 9 ≤ (o + 3) ∧ (o + 3) < o + 9 + 12); omega), List.forall_mem_cons.mpr ⟨(by show ¬ (o + 9 ≤ (o + 4) ∧ (o + 4) < o + 9 + 12); omega), List.forall_mem_cons.mpr ⟨(by show ¬ (o + 9 ≤ (o + 5) ∧ (o + 5) < o + 9 + 12); omega), List.forall_mem_cons.mpr ⟨(by show ¬ (o + 9 ≤ (o + 6) ∧ (o + 6) < o + 9 + 12); omega), List.forall_mem_cons.mpr ⟨(by show ¬ (o + 9 ≤ (o + 7) ∧ (o + 7) < o + 9 + 12); omega), List.forall_mem_cons.mpr ⟨(by show ¬ (o + 9 ≤ (o + 21) ∧ (o + 21) < o + 9 + 12); omega), fun _ h => absurd h List.not_mem_nil⟩⟩⟩⟩⟩⟩⟩⟩))).trans (ova_merge (l := [((o + 1), a_men), ((o + 2), w1_a_done), ((o + 3), w1_a_busy), ((o + 4), w1_a_litres), ((o + 5), w1_a_stands), ((o + 6), w1_a_first), ((o + 7), w1_a_heaps), ((o + 21), w1_a_backs)]) hN_A [0, 1, 2, 3, 4, 5, 6, 7] [((o + 1), a_men), ((o + 2), rr5.2.2.2.2.2.2.2.1), ((o + 3), rr5.2.2.2.2.2.2.2.2.1), ((o + 4), rr5.2.2.2.2.2.2.2.2.2.1), ((o + 5), rr5.2.2.2.2.2.2.2.2.2.2.1), ((o + 6), rr5.2.2.2.2.2.2.2.2.2.2.2.1), ((o + 7), rr5.2.2.2.2.2.2.2.2.2.2.2.2.1), ((o + 21), rr5.2.2.2.2.2.2.2.2.2.2.2.2.2.1)] rfl rfl)) rfl rfl
    obtain ⟨v6, ev6, hf⟩ := lt_some hf
    refine lv_iinc (k := 3) (v := v6) (lv' := [(3, .int v6), (0, .ref o), (1, .int p1), (2, .int i_thrown)]) hx hb dX9_goes_26 hl rfl (by rw [ev6]; rfl) (by decide) rfl (fun ls hl => ?_)
    refine lv_goto (tgt := 7) hx hb dX9_goes_29 (by decide) ?_
    obtain rfl := some_i hf
    exact hk1 _ _ _ hR hS (lv_sub hl [1, 2, 3, 0] rfl)
noncomputable def f9_goesN_e1_0 (i_thrown : Int32) (x1_0 : Int32 × Int32 × Int32 × Int32 × (Nat → Int32) × (Nat → Int32) × (Nat → Int32)) : Option (Int32 × Int32 × Int32 × Int32 × Int32 × (Nat → Int32) × (Nat → Int32) × (Nat → Int32)) :=
  lt (x1_0.2.1 - i_thrown) fun v2 =>
  some (v2, x1_0.1, x1_0.2.1, x1_0.2.2.1, x1_0.2.2.2.1, x1_0.2.2.2.2.1, x1_0.2.2.2.2.2.1, x1_0.2.2.2.2.2.2)

noncomputable def f9_goesN_s1 (p1 : Int32) (i_y_way : Int32) (i_y_hold : Int32) (i_y_draw : Int32) (i_many : Int32) (a_men : Nat → Int32) (q_y_men : Nat → Option Nat) (mi_pace : Nat → Int32) (w1_3 : Int32) (w1_i_water : Int32) (w1_i_thrown : Int32) (w1_i_tick : Int32) (w1_i_drawing : Int32) (w1_a_does : Nat → Int32) (w1_a_left : Nat → Int32) (w1_a_litres : Nat → Int32) : Option ((Int32 × Int32 × Int32 × Int32 × Int32 × (Nat → Int32) × (Nat → Int32) × (Nat → Int32)) ⊕ (Int32 × Int32 × Int32 × Int32 × (Nat → Int32) × (Nat → Int32) × (Nat → Int32))) :=
  if p1 ≤ w1_3 then
    some (.inr (w1_i_water, w1_i_thrown, w1_i_tick, w1_i_drawing, w1_a_does, w1_a_left, w1_a_litres))
  else
    lt (w1_i_tick + (1 : Int32)) fun v4 =>
    (f11_ticks i_y_way i_y_hold i_y_draw i_many w1_i_water w1_i_thrown w1_i_drawing a_men w1_a_does w1_a_left w1_a_litres q_y_men mi_pace).bind fun rr5 =>
    lt (w1_3 + (1 : Int32)) fun v6 =>
    some (.inl (v6, rr5.1, rr5.2.1, v4, rr5.2.2.1, rr5.2.2.2.1, rr5.2.2.2.2.1, rr5.2.2.2.2.2))

noncomputable def f9_goesN (p1 : Int32) (i_y_way : Int32) (i_y_hold : Int32) (i_y_draw : Int32) (i_many : Int32) (i_water : Int32) (i_thrown : Int32) (i_tick : Int32) (i_drawing : Int32) (a_men : Nat → Int32) (a_does : Nat → Int32) (a_left : Nat → Int32) (a_litres : Nat → Int32) (q_y_men : Nat → Option Nat) (mi_pace : Nat → Int32) : Option (Int32 × Int32 × Int32 × Int32 × Int32 × (Nat → Int32) × (Nat → Int32) × (Nat → Int32)) :=
  (whl (fun (s1 : Int32 × Int32 × Int32 × Int32 × Int32 × (Nat → Int32) × (Nat → Int32) × (Nat → Int32)) => f9_goesN_s1 p1 i_y_way i_y_hold i_y_draw i_many a_men q_y_men mi_pace s1.1 s1.2.1 s1.2.2.1 s1.2.2.2.1 s1.2.2.2.2.1 s1.2.2.2.2.2.1 s1.2.2.2.2.2.2.1 s1.2.2.2.2.2.2.2) FU ((0 : Int32), i_water, i_thrown, i_tick, i_drawing, a_does, a_left, a_litres)).bind fun rl1 =>
  f9_goesN_e1_0 i_thrown rl1
set_option maxHeartbeats 4000000 in
theorem m9_goesN (l : Launch) (G : gG) (K : gK) (I : gI) (J : gJ) (X : gX) (A : gI) (B : gJ) (Q : gX) (o : Nat) (y : Nat) (sh_o : Sh K X o 8 rows8) (sh_y : Sh K X y 3 rows3) (x_o_yard : X 801 o = some y) (p1 : Int32) (i_y_way : Int32) (i_y_hold : Int32) (i_y_draw : Int32) (i_many : Int32) (i_water : Int32) (i_thrown : Int32) (i_tick : Int32) (i_drawing : Int32) (a_men : Nat → Int32) (a_does : Nat → Int32) (a_left : Nat → Int32) (a_litres : Nat → Int32) (q_y_men : Nat → Option Nat) (mi_pace : Nat → Int32) (e_i_y_way : I 306 y = i_y_way) (e_i_y_hold : I 308 y = i_y_hold) (e_i_y_draw : I 309 y = i_y_draw) (e_i_many : I 802 o = i_many) (e_i_water : I 803 o = i_water) (e_i_thrown : I 804 o = i_thrown) (e_i_tick : I 805 o = i_tick) (e_i_drawing : I 809 o = i_drawing) (e_a_men : A (o + 1) = a_men) (e_a_does : A (o + 2) = a_does) (e_a_left : A (o + 3) = a_left) (e_a_litres : A (o + 4) = a_litres) (e_q_y_men : Q (y + 1) = q_y_men) (e_mi_pace : I 1202 = mi_pace) (hman : ∀ (j m : Nat), q_y_men j = some m → K m = some (.inl 12)) (out : Int32 × Int32 × Int32 × Int32 × Int32 × (Nat → Int32) × (Nat → Int32) × (Nat → Int32)) (hf : f9_goesN p1 i_y_way i_y_hold i_y_draw i_many i_water i_thrown i_tick i_drawing a_men a_does a_left a_litres q_y_men mi_pace = some out) : GMet l yX9_goes cX9_goes 4 (some .int) (3) (63) G [.ref o, .int p1] K I J X A B Q (some (.int out.1)) K (ov I [(803, o, out.2.1), (804, o, out.2.2.1), (805, o, out.2.2.2.1), (809, o, out.2.2.2.2.1)]) J X (ova A [((o + 1), a_men), ((o + 2), out.2.2.2.2.2.1), ((o + 3), out.2.2.2.2.2.2.1), ((o + 4), out.2.2.2.2.2.2.2)]) B Q 0 0 := by
  refine GMet.of (y := yX9_goes) rfl (Nat.le_of_ble_eq_true rfl) rfl ?_
  intro p e s m below meth c ls hx hb hr hml hlocks hts hown hname hG hR hl
  have hown : s.vm.findClass RX9 = some m.cls := hown
  have k_a_men : K (o + 1) = some (.inr (0, 12)) := (sh_o.2 0 _ rfl).1
  have k_a_does : K (o + 2) = some (.inr (0, 12)) := (sh_o.2 1 _ rfl).1
  have k_a_left : K (o + 3) = some (.inr (0, 12)) := (sh_o.2 2 _ rfl).1
  have k_a_litres : K (o + 4) = some (.inr (0, 12)) := (sh_o.2 3 _ rfl).1
  have k_q_y_men : K (y + 1) = some (.inr (4, 12)) := (sh_y.2 0 _ rfl).1
  have hN_A : nda [(o + 1), (o + 2), (o + 3), (o + 4)] := nd_off o [1, 2, 3, 4] rfl
  have hR : RS G K (ov I [(803, o, i_water), (804, o, i_thrown), (805, o, i_tick), (809, o, i_drawing)]) J X (ova A [((o + 1), a_men), ((o + 2), a_does), ((o + 3), a_left), ((o + 4), a_litres)]) B Q s.heap := hR.to (Eq.symm (ov_sc e_i_water (ov_sc e_i_thrown (ov_sc e_i_tick (ov_sc e_i_drawing rfl))))) rfl rfl (Eq.symm (ova_sc e_a_men (ova_sc e_a_does (ova_sc e_a_left (ova_sc e_a_litres rfl))))) rfl rfl
  have hS : va_S (gA G) s.heap s.heap [] := va_S.rf
  have hend : ∀ (pc : Nat) (H : Heap) (locs : List Loc) (ls : Array Slot), decode cX9_goes pc = .ok (.ireturn, 1) → RS G K (ov I [(803, o, out.2.1), (804, o, out.2.2.1), (805, o, out.2.2.2.1), (809, o, out.2.2.2.2.1)]) J X (ova A [((o + 1), a_men), ((o + 2), out.2.2.2.2.2.1), ((o + 3), out.2.2.2.2.2.2.1), ((o + 4), out.2.2.2.2.2.2.2)]) B Q H → va_S (gA G) s.heap H locs → W p l e ({ frames := 3, cells := 0, slots := 0, locals := 63 } : Room) s m ([.ref o, .int p1] : List Value).toArray below meth c H locs 0 0 (MQ below (gQ G (some (.int out.1)) K (ov I [(803, o, out.2.1), (804, o, out.2.2.1), (805, o, out.2.2.2.1), (809, o, out.2.2.2.2.1)]) J X (ova A [((o + 1), a_men), ((o + 2), out.2.2.2.2.2.1), ((o + 3), out.2.2.2.2.2.2.1), ((o + 4), out.2.2.2.2.2.2.2)]) B Q) ([.ref o, .int p1] : List Value).toArray s 0 0 (gA G)) (F0 m pc ls [.int out.1]) := fun pc H locs ls hd hR hS => g_iret hx hb hr hlocks hG hR hS rfl hd
  generalize MQ below (gQ G (some (.int out.1)) K (ov I [(803, o, out.2.1), (804, o, out.2.2.1), (805, o, out.2.2.2.1), (809, o, out.2.2.2.2.1)]) J X (ova A [((o + 1), a_men), ((o + 2), out.2.2.2.2.2.1), ((o + 3), out.2.2.2.2.2.2.1), ((o + 4), out.2.2.2.2.2.2.2)]) B Q) ([.ref o, .int p1] : List Value).toArray s 0 0 (gA G) = Z at hend ⊢
  generalize ([.ref o, .int p1] : List Value).toArray = args at hts hend ⊢
  unfold f9_goesN at hf
  refine lv_aload_n hx hb dX9_goes_0 rfl (lv_at hl 0 rfl) ?_
  refine n_geti (v := i_thrown) hx hb hts hown hG hR gFi_X9_32_8 sh_o.1 (ov_get 1 rfl rfl) dX9_goes_1 ?_
  refine lv_istore_n (lv' := [(2, .int i_thrown), (0, .ref o), (1, .int p1)]) hx hb dX9_goes_4 rfl hl (by decide) rfl (fun ls hl => ?_)
  refine lv_iconst (v := 0) hx hb dX9_goes_5 li_0 ?_
  refine lv_istore_n (lv' := [(3, .int (0 : Int32)), (2, .int i_thrown), (0, .ref o), (1, .int p1)]) hx hb dX9_goes_6 rfl hl (by decide) rfl (fun ls hl => ?_)
  obtain ⟨rl1, hw1, hfo1⟩ := bind_s hf
  have hx1_0 : ∀ (x1_0 : Int32 × Int32 × Int32 × Int32 × (Nat → Int32) × (Nat → Int32) × (Nat → Int32)), f9_goesN_e1_0 i_thrown x1_0 = some out → ∀ (H : Heap) (locs : List Loc) (ls : Array Slot), RS G K (ov I [(803, o, x1_0.1), (804, o, x1_0.2.1), (805, o, x1_0.2.2.1), (809, o, x1_0.2.2.2.1)]) J X (ova A [((o + 1), a_men), ((o + 2), x1_0.2.2.2.2.1), ((o + 3), x1_0.2.2.2.2.2.1), ((o + 4), x1_0.2.2.2.2.2.2)]) B Q H → va_S (gA G) s.heap H locs → lv_has ls 4 [(0, .ref o), (2, .int i_thrown)] → W p l e ({ frames := 3, cells := 0, slots := 0, locals := 63 } : Room) s m args below meth c H locs 0 0 Z (F0 m 32 ls []) := by
    intro x1_0 hf H locs ls hR hS hl
    unfold f9_goesN_e1_0 at hf
    refine lv_aload_n hx hb dX9_goes_32 rfl (lv_at hl 0 rfl) ?_
    refine n_geti (v := x1_0.2.1) hx hb hts hown hG hR gFi_X9_32_8 sh_o.1 (ov_get 1 rfl rfl) dX9_goes_33 ?_
    refine lv_iload_n hx hb dX9_goes_36 rfl (lv_at hl 1 rfl) ?_
    obtain ⟨v2, ev2, hf⟩ := lt_some hf
    refine n_isub hx hb ev2 dX9_goes_37 ?_
    obtain rfl := some_i hf
    exact hend _ _ _ _ dX9_goes_38 hR hS
  refine whl_walk (P := fun (s1 : Int32 × Int32 × Int32 × Int32 × Int32 × (Nat → Int32) × (Nat → Int32) × (Nat → Int32)) => ∀ (H : Heap) (locs : List Loc) (ls : Array Slot), RS G K (ov I [(803, o, s1.2.1), (804, o, s1.2.2.1), (805, o, s1.2.2.2.1), (809, o, s1.2.2.2.2.1)]) J X (ova A [((o + 1), a_men), ((o + 2), s1.2.2.2.2.2.1), ((o + 3), s1.2.2.2.2.2.2.1), ((o + 4), s1.2.2.2.2.2.2.2)]) B Q H → va_S (gA G) s.heap H locs → lv_has ls 4 [(0, .ref o), (1, .int p1), (2, .int i_thrown), (3, .int s1.1)] → W p l e ({ frames := 3, cells := 0, slots := 0, locals := 63 } : Room) s m args below meth c H locs 0 0 Z (F0 m 7 ls [])) (r := rl1) ?_ FU _ hw1 _ _ _ hR hS (lv_sub hl [2, 3, 1, 0] rfl)
  clear hR hS hl hf
  intro s1 o1 hf hk1 H locs ls hR hS hl
  obtain ⟨w1_3, w1_i_water, w1_i_thrown, w1_i_tick, w1_i_drawing, w1_a_does, w1_a_left, w1_a_litres⟩ := s1
  have hf : f9_goesN_s1 p1 i_y_way i_y_hold i_y_draw i_many a_men q_y_men mi_pace w1_3 w1_i_water w1_i_thrown w1_i_tick w1_i_drawing w1_a_does w1_a_left w1_a_litres = some o1 := hf
  have hR : RS G K (ov I [(803, o, w1_i_water), (804, o, w1_i_thrown), (805, o, w1_i_tick), (809, o, w1_i_drawing)]) J X (ova A [((o + 1), a_men), ((o + 2), w1_a_does), ((o + 3), w1_a_left), ((o + 4), w1_a_litres)]) B Q H := hR
  have hl : lv_has ls 4 [(0, .ref o), (1, .int p1), (2, .int i_thrown), (3, .int w1_3)] := hl
  unfold f9_goesN_s1 at hf
  refine lv_iload_n hx hb dX9_goes_7 rfl (lv_at hl 3 rfl) ?_
  refine lv_iload_n hx hb dX9_goes_8 rfl (lv_at hl 1 rfl) ?_
  refine lv_icmp_ge (tgt := 32) hx hb dX9_goes_9 (by decide) (fun c3 => ?_) (fun c3 => ?_)
  · have hf := ite_t c3 hf
    obtain rfl := some_i hf
    replace hk1 : _ = rl1 := hk1
    subst hk1
    exact hx1_0 (w1_i_water, w1_i_thrown, w1_i_tick, w1_i_drawing, w1_a_does, w1_a_left, w1_a_litres) hfo1 _ _ _ hR hS (lv_sub hl [0, 2] rfl)
  · have hf := ite_f c3 hf
    refine lv_aload_n hx hb dX9_goes_12 rfl (lv_at hl 0 rfl) ?_
    refine lv_dup hx hb dX9_goes_13 rfl ?_
    refine n_geti (v := w1_i_tick) hx hb hts hown hG hR gFi_X9_35_8 sh_o.1 (ov_get 2 rfl rfl) dX9_goes_14 ?_
    refine lv_iconst (v := 1) hx hb dX9_goes_17 li_1 ?_
    obtain ⟨v4, ev4, hf⟩ := lt_some hf
    refine n_iadd hx hb ev4 dX9_goes_18 ?_
    refine n_puti (li' := [(803, o, w1_i_water), (804, o, w1_i_thrown), (805, o, v4), (809, o, w1_i_drawing)]) hx hb hts hown hG hR hS gPi_X9_35_8 sh_o.1 2 rfl rfl rfl dX9_goes_19 (fun H locs hR hS => ?_)
    refine lv_aload_n hx hb dX9_goes_22 rfl (lv_at hl 0 rfl) ?_
    obtain ⟨rr5, hrr5, hf⟩ := bind_s hf
    refine g0_cUv (rm := (2, 42)) (As := []) (rest := []) ⟨hx, hb, hml, hown, hts⟩ hG hR hS (m11_ticks l G K (ov I [(803, o, w1_i_water), (804, o, w1_i_thrown), (805, o, v4), (809, o, w1_i_drawing)]) J X (ova A [((o + 1), a_men), ((o + 2), w1_a_does), ((o + 3), w1_a_left), ((o + 4), w1_a_litres)]) B Q o y sh_o sh_y x_o_yard i_y_way i_y_hold i_y_draw i_many w1_i_water w1_i_thrown w1_i_drawing a_men w1_a_does w1_a_left w1_a_litres q_y_men mi_pace ((congrFun (ov_no rfl) _).trans e_i_y_way) ((congrFun (ov_no rfl) _).trans e_i_y_hold) ((congrFun (ov_no rfl) _).trans e_i_y_draw) ((congrFun (ov_no rfl) _).trans e_i_many) (ov_get 0 rfl rfl) (ov_get 1 rfl rfl) (ov_get 3 rfl rfl) (ova_get 0 hN_A rfl) (ova_get 1 hN_A rfl) (ova_get 2 hN_A rfl) (ova_get 3 hN_A rfl) e_q_y_men ((ov_no rfl).trans e_mi_pace) hman rr5 hrr5) (va_cwA (x := ⟨"PailRow$Team", "ticks", "()V"⟩) (owner := "PailRow$Team") 0 hts gu_X9_43_8 rfl rfl rfl (hG.2 _ q1150 rfl) ⟨by decide, by decide, (hd_X11_ticks.2).2.2⟩ ⟨Nat.le_of_ble_eq_true rfl, Nat.le_of_ble_eq_true rfl⟩) sh_o.1 rfl rfl hl.1 (Nat.le_of_ble_eq_true rfl) dX9_goes_23 ⟨Nat.le_refl _, Nat.le_refl _⟩ rfl (fun H locs hR hS => ?_)
    have hR : RS G K (ov I [(803, o, rr5.1), (804, o, rr5.2.1), (805, o, v4), (809, o, rr5.2.2.1)]) J X (ova A [((o + 1), a_men), ((o + 2), rr5.2.2.2.1), ((o + 3), rr5.2.2.2.2.1), ((o + 4), rr5.2.2.2.2.2)]) B Q H := hR.to (ov_merge (l := [(803, o, w1_i_water), (804, o, w1_i_thrown), (805, o, v4), (809, o, w1_i_drawing)]) rfl [0, 1, 3] [(803, o, rr5.1), (804, o, rr5.2.1), (809, o, rr5.2.2.1)] rfl rfl) rfl rfl (ova_merge (l := [((o + 1), a_men), ((o + 2), w1_a_does), ((o + 3), w1_a_left), ((o + 4), w1_a_litres)]) hN_A [0, 1, 2, 3] [((o + 1), a_men), ((o + 2), rr5.2.2.2.1), ((o + 3), rr5.2.2.2.2.1), ((o + 4), rr5.2.2.2.2.2)] rfl rfl) rfl rfl
    obtain ⟨v6, ev6, hf⟩ := lt_some hf
    refine lv_iinc (k := 3) (v := v6) (lv' := [(3, .int v6), (0, .ref o), (1, .int p1), (2, .int i_thrown)]) hx hb dX9_goes_26 hl rfl (by rw [ev6]; rfl) (by decide) rfl (fun ls hl => ?_)
    refine lv_goto (tgt := 7) hx hb dX9_goes_29 (by decide) ?_
    obtain rfl := some_i hf
    exact hk1 _ _ _ hR hS (lv_sub hl [1, 2, 3, 0] rfl)
noncomputable def f1_four_e1_0 (x1_0 : Int32 × (Nat → Int32)) : Option (Int32 × (Nat → Int32)) :=
  some x1_0

noncomputable def f1_four_s1 (p1 : Int32) (w1_2 : Int32) (w1_i_length : Int32) (w1_a_tape : Nat → Int32) : Option ((Int32 × Int32 × (Nat → Int32)) ⊕ (Int32 × (Nat → Int32))) :=
  if w1_2 < 0 then
    some (.inr (w1_i_length, w1_a_tape))
  else
    lt (p1 >>> (w1_2 &&& 31)) fun v3 =>
    lt (v3.toInt8.toInt32) fun v4 =>
    gd (inb w1_i_length 740) <|
    lt (upd w1_a_tape w1_i_length.toNatClampNeg (vp_nar .byte v4)) fun u6 =>
    lt (w1_i_length + (1 : Int32)) fun v7 =>
    lt (w1_2 + (-8 : Int32)) fun v8 =>
    some (.inl (v8, v7, u6))

noncomputable def f1_four (p1 : Int32) (i_length : Int32) (a_tape : Nat → Int32) : Option (Int32 × (Nat → Int32)) :=
  (whl (fun (s1 : Int32 × Int32 × (Nat → Int32)) => f1_four_s1 p1 s1.1 s1.2.1 s1.2.2) FU ((24 : Int32), i_length, a_tape)).bind fun rl1 =>
  f1_four_e1_0 rl1
set_option maxHeartbeats 4000000 in
theorem m1_four (l : Launch) (G : gG) (K : gK) (I : gI) (J : gJ) (X : gX) (A : gI) (B : gJ) (Q : gX) (o : Nat) (sh_o : Sh K X o 0 rows0) (p1 : Int32) (i_length : Int32) (a_tape : Nat → Int32) (e_i_length : I 1 o = i_length) (e_a_tape : A (o + 1) = a_tape) (out : Int32 × (Nat → Int32)) (hf : f1_four p1 i_length a_tape = some out) : GMet l yX1_four cX1_four 3 none (0) (0) G [.ref o, .int p1] K I J X A B Q none K (ov I [(1, o, out.1)]) J X (ova A [((o + 1), out.2)]) B Q 0 0 := by
  refine GMet.of (y := yX1_four) rfl (Nat.le_of_ble_eq_true rfl) rfl ?_
  intro p e s m below meth c ls hx hb hr hml hlocks hts hown hname hG hR hl
  have hown : s.vm.findClass RX1 = some m.cls := hown
  have k_a_tape : K (o + 1) = some (.inr (2, 740)) := (sh_o.2 0 _ rfl).1
  have hN_A : nda [(o + 1)] := nd_off o [1] rfl
  have hR : RS G K (ov I [(1, o, i_length)]) J X (ova A [((o + 1), a_tape)]) B Q s.heap := hR.to (Eq.symm (ov_sc e_i_length rfl)) rfl rfl (Eq.symm (ova_sc e_a_tape rfl)) rfl rfl
  have hS : va_S (gA G) s.heap s.heap [] := va_S.rf
  have hend : ∀ (pc : Nat) (H : Heap) (locs : List Loc) (ls : Array Slot), decode cX1_four pc = .ok (.return_, 1) → RS G K (ov I [(1, o, out.1)]) J X (ova A [((o + 1), out.2)]) B Q H → va_S (gA G) s.heap H locs → W p l e ({ frames := 0, cells := 0, slots := 0, locals := 0 } : Room) s m ([.ref o, .int p1] : List Value).toArray below meth c H locs 0 0 (MQ below (gQ G none K (ov I [(1, o, out.1)]) J X (ova A [((o + 1), out.2)]) B Q) ([.ref o, .int p1] : List Value).toArray s 0 0 (gA G)) (F0 m pc ls []) := fun pc H locs ls hd hR hS => g_vret hx hb hr hlocks hG hR hS rfl hd
  generalize MQ below (gQ G none K (ov I [(1, o, out.1)]) J X (ova A [((o + 1), out.2)]) B Q) ([.ref o, .int p1] : List Value).toArray s 0 0 (gA G) = Z at hend ⊢
  generalize ([.ref o, .int p1] : List Value).toArray = args at hts hend ⊢
  unfold f1_four at hf
  refine lv_bipush (v := 24) hx hb dX1_four_0 lb_24 ?_
  refine lv_istore_n (lv' := [(2, .int (24 : Int32)), (0, .ref o), (1, .int p1)]) hx hb dX1_four_2 rfl hl (by decide) rfl (fun ls hl => ?_)
  obtain ⟨rl1, hw1, hfo1⟩ := bind_s hf
  have hx1_0 : ∀ (x1_0 : Int32 × (Nat → Int32)), f1_four_e1_0 x1_0 = some out → ∀ (pc : Nat) (H : Heap) (locs : List Loc) (ls : Array Slot), decode cX1_four pc = .ok (.return_, 1) → RS G K (ov I [(1, o, x1_0.1)]) J X (ova A [((o + 1), x1_0.2)]) B Q H → va_S (gA G) s.heap H locs → W p l e ({ frames := 0, cells := 0, slots := 0, locals := 0 } : Room) s m args below meth c H locs 0 0 Z (F0 m pc ls []) := by
    intro x1_0 hf pc H locs ls hd hR hS
    unfold f1_four_e1_0 at hf
    obtain rfl := some_i hf
    exact hend _ _ _ _ hd hR hS
  refine whl_walk (P := fun (s1 : Int32 × Int32 × (Nat → Int32)) => ∀ (H : Heap) (locs : List Loc) (ls : Array Slot), RS G K (ov I [(1, o, s1.2.1)]) J X (ova A [((o + 1), s1.2.2)]) B Q H → va_S (gA G) s.heap H locs → lv_has ls 3 [(0, .ref o), (1, .int p1), (2, .int s1.1)] → W p l e ({ frames := 0, cells := 0, slots := 0, locals := 0 } : Room) s m args below meth c H locs 0 0 Z (F0 m 3 ls [])) (r := rl1) ?_ FU _ hw1 _ _ _ hR hS (lv_sub hl [1, 2, 0] rfl)
  clear hR hS hl hf
  intro s1 o1 hf hk1 H locs ls hR hS hl
  obtain ⟨w1_2, w1_i_length, w1_a_tape⟩ := s1
  have hf : f1_four_s1 p1 w1_2 w1_i_length w1_a_tape = some o1 := hf
  have hR : RS G K (ov I [(1, o, w1_i_length)]) J X (ova A [((o + 1), w1_a_tape)]) B Q H := hR
  have hl : lv_has ls 3 [(0, .ref o), (1, .int p1), (2, .int w1_2)] := hl
  unfold f1_four_s1 at hf
  refine lv_iload_n hx hb dX1_four_3 rfl (lv_at hl 2 rfl) ?_
  refine lv_if_lt (tgt := 36) hx hb dX1_four_4 (by decide) (fun c2 => ?_) (fun c2 => ?_)
  · have hf := ite_t c2 hf
    obtain rfl := some_i hf
    replace hk1 : _ = rl1 := hk1
    subst hk1
    exact hx1_0 (w1_i_length, w1_a_tape) hfo1 _ _ _ _ dX1_four_36 hR hS
  · have hf := ite_f c2 hf
    refine lv_aload_n hx hb dX1_four_7 rfl (lv_at hl 0 rfl) ?_
    refine g_getr (b := (o + 1)) hx hb hts hown hG hR gFx_X1_9_0 sh_o.1 ((sh_o.2 0 _ rfl).2) dX1_four_8 ?_
    refine lv_aload_n hx hb dX1_four_11 rfl (lv_at hl 0 rfl) ?_
    refine n_geti (v := w1_i_length) hx hb hts hown hG hR gFi_X1_214_0 sh_o.1 (ov_get 0 rfl rfl) dX1_four_12 ?_
    refine lv_iload_n hx hb dX1_four_15 rfl (lv_at hl 1 rfl) ?_
    refine lv_iload_n hx hb dX1_four_16 rfl (lv_at hl 2 rfl) ?_
    obtain ⟨v3, ev3, hf⟩ := lt_some hf
    refine n_ishr hx hb ev3 dX1_four_17 ?_
    obtain ⟨v4, ev4, hf⟩ := lt_some hf
    refine n_i2b hx hb ev4 dX1_four_18 ?_
    obtain ⟨c5, hf⟩ := gd_some hf
    obtain ⟨u6, eu6, hf⟩ := lt_some hf
    refine n_bast (la' := [((o + 1), u6)]) hx hb hG hR hS k_a_tape c5 hN_A 0 rfl eu6 rfl dX1_four_19 (fun H locs hR hS => ?_)
    refine lv_aload_n hx hb dX1_four_20 rfl (lv_at hl 0 rfl) ?_
    refine lv_dup hx hb dX1_four_21 rfl ?_
    refine n_geti (v := w1_i_length) hx hb hts hown hG hR gFi_X1_214_0 sh_o.1 (ov_get 0 rfl rfl) dX1_four_22 ?_
    refine lv_iconst (v := 1) hx hb dX1_four_25 li_1 ?_
    obtain ⟨v7, ev7, hf⟩ := lt_some hf
    refine n_iadd hx hb ev7 dX1_four_26 ?_
    refine n_puti (li' := [(1, o, v7)]) hx hb hts hown hG hR hS gPi_X1_214_0 sh_o.1 0 rfl rfl rfl dX1_four_27 (fun H locs hR hS => ?_)
    obtain ⟨v8, ev8, hf⟩ := lt_some hf
    refine lv_iinc (k := 2) (v := v8) (lv' := [(2, .int v8), (0, .ref o), (1, .int p1)]) hx hb dX1_four_30 hl rfl (by rw [ev8]; rfl) (by decide) rfl (fun ls hl => ?_)
    refine lv_goto (tgt := 3) hx hb dX1_four_33 (by decide) ?_
    obtain rfl := some_i hf
    exact hk1 _ _ _ hR hS (lv_sub hl [1, 2, 0] rfl)
noncomputable def f1_feed (p1 : Int32) (p2 : Int32) (p3 : Int32) (p4 : Int32) (p5 : Int32) (i_length : Int32) (a_tape : Nat → Int32) : Option (Int32 × Int32 × (Nat → Int32)) :=
  lt (i_length + (20 : Int32)) fun v1 =>
  if v1 ≤ (740 : Int32) then
    (f1_four p1 i_length a_tape).bind fun rr3 =>
    (f1_four p2 rr3.1 rr3.2).bind fun rr4 =>
    (f1_four p3 rr4.1 rr4.2).bind fun rr5 =>
    (f1_four p4 rr5.1 rr5.2).bind fun rr6 =>
    (f1_four p5 rr6.1 rr6.2).bind fun rr7 =>
    some (rr7.1, rr7.1, rr7.2)
  else
    some ((-1 : Int32), i_length, a_tape)
set_option maxHeartbeats 4000000 in
theorem m1_feed (l : Launch) (G : gG) (K : gK) (I : gI) (J : gJ) (X : gX) (A : gI) (B : gJ) (Q : gX) (o : Nat) (sh_o : Sh K X o 0 rows0) (p1 : Int32) (p2 : Int32) (p3 : Int32) (p4 : Int32) (p5 : Int32) (i_length : Int32) (a_tape : Nat → Int32) (e_i_length : I 1 o = i_length) (e_a_tape : A (o + 1) = a_tape) (out : Int32 × Int32 × (Nat → Int32)) (hf : f1_feed p1 p2 p3 p4 p5 i_length a_tape = some out) : GMet l yX1_feed cX1_feed 6 (some .int) (1) (22) G [.ref o, .int p1, .int p2, .int p3, .int p4, .int p5] K I J X A B Q (some (.int out.1)) K (ov I [(1, o, out.2.1)]) J X (ova A [((o + 1), out.2.2)]) B Q 0 0 := by
  refine GMet.of (y := yX1_feed) rfl (Nat.le_of_ble_eq_true rfl) rfl ?_
  intro p e s m below meth c ls hx hb hr hml hlocks hts hown hname hG hR hl
  have hown : s.vm.findClass RX1 = some m.cls := hown
  have k_a_tape : K (o + 1) = some (.inr (2, 740)) := (sh_o.2 0 _ rfl).1
  have hN_A : nda [(o + 1)] := nd_off o [1] rfl
  have hR : RS G K (ov I [(1, o, i_length)]) J X (ova A [((o + 1), a_tape)]) B Q s.heap := hR.to (Eq.symm (ov_sc e_i_length rfl)) rfl rfl (Eq.symm (ova_sc e_a_tape rfl)) rfl rfl
  have hS : va_S (gA G) s.heap s.heap [] := va_S.rf
  have hend : ∀ (pc : Nat) (H : Heap) (locs : List Loc) (ls : Array Slot), decode cX1_feed pc = .ok (.ireturn, 1) → RS G K (ov I [(1, o, out.2.1)]) J X (ova A [((o + 1), out.2.2)]) B Q H → va_S (gA G) s.heap H locs → W p l e ({ frames := 1, cells := 0, slots := 0, locals := 22 } : Room) s m ([.ref o, .int p1, .int p2, .int p3, .int p4, .int p5] : List Value).toArray below meth c H locs 0 0 (MQ below (gQ G (some (.int out.1)) K (ov I [(1, o, out.2.1)]) J X (ova A [((o + 1), out.2.2)]) B Q) ([.ref o, .int p1, .int p2, .int p3, .int p4, .int p5] : List Value).toArray s 0 0 (gA G)) (F0 m pc ls [.int out.1]) := fun pc H locs ls hd hR hS => g_iret hx hb hr hlocks hG hR hS rfl hd
  generalize MQ below (gQ G (some (.int out.1)) K (ov I [(1, o, out.2.1)]) J X (ova A [((o + 1), out.2.2)]) B Q) ([.ref o, .int p1, .int p2, .int p3, .int p4, .int p5] : List Value).toArray s 0 0 (gA G) = Z at hend ⊢
  generalize ([.ref o, .int p1, .int p2, .int p3, .int p4, .int p5] : List Value).toArray = args at hts hend ⊢
  unfold f1_feed at hf
  refine lv_aload_n hx hb dX1_feed_0 rfl (lv_at hl 0 rfl) ?_
  refine n_geti (v := i_length) hx hb hts hown hG hR gFi_X1_214_0 sh_o.1 (ov_get 0 rfl rfl) dX1_feed_1 ?_
  refine lv_bipush (v := 20) hx hb dX1_feed_4 lb_20 ?_
  obtain ⟨v1, ev1, hf⟩ := lt_some hf
  refine n_iadd hx hb ev1 dX1_feed_6 ?_
  refine lv_sipush (v := 740) hx hb dX1_feed_7 ls_740 ?_
  refine lv_icmp_le (tgt := 15) hx hb dX1_feed_10 (by decide) (fun c2 => ?_) (fun c2 => ?_)
  · have hf := ite_t c2 hf
    refine lv_aload_n hx hb dX1_feed_15 rfl (lv_at hl 0 rfl) ?_
    refine lv_iload_n hx hb dX1_feed_16 rfl (lv_at hl 1 rfl) ?_
    obtain ⟨rr3, hrr3, hf⟩ := bind_s hf
    refine g0_cVv (rm := (0, 0)) (As := [.int p1]) (rest := []) ⟨hx, hb, hml, hown, hts⟩ hG hR hS (m1_four l G K (ov I [(1, o, i_length)]) J X (ova A [((o + 1), a_tape)]) B Q o sh_o p1 i_length a_tape (ov_get 0 rfl rfl) (ova_get 0 hN_A rfl) rr3 hrr3) (cwV 1 hts gi_X1_218 rfl rfl rfl hd_X1_four ⟨Nat.le_of_ble_eq_true rfl, Nat.le_of_ble_eq_true rfl⟩) sh_o.1 rfl rfl hl.1 (Nat.le_of_ble_eq_true rfl) dX1_feed_17 ⟨Nat.le_refl _, Nat.le_refl _⟩ rfl (fun H locs hR hS => ?_)
    have hR : RS G K (ov I [(1, o, rr3.1)]) J X (ova A [((o + 1), rr3.2)]) B Q H := hR.to (ov_merge (l := [(1, o, i_length)]) rfl [0] [(1, o, rr3.1)] rfl rfl) rfl rfl (ova_merge (l := [((o + 1), a_tape)]) hN_A [0] [((o + 1), rr3.2)] rfl rfl) rfl rfl
    refine lv_aload_n hx hb dX1_feed_20 rfl (lv_at hl 0 rfl) ?_
    refine lv_iload_n hx hb dX1_feed_21 rfl (lv_at hl 2 rfl) ?_
    obtain ⟨rr4, hrr4, hf⟩ := bind_s hf
    refine g0_cVv (rm := (0, 0)) (As := [.int p2]) (rest := []) ⟨hx, hb, hml, hown, hts⟩ hG hR hS (m1_four l G K (ov I [(1, o, rr3.1)]) J X (ova A [((o + 1), rr3.2)]) B Q o sh_o p2 rr3.1 rr3.2 (ov_get 0 rfl rfl) (ova_get 0 hN_A rfl) rr4 hrr4) (cwV 1 hts gi_X1_218 rfl rfl rfl hd_X1_four ⟨Nat.le_of_ble_eq_true rfl, Nat.le_of_ble_eq_true rfl⟩) sh_o.1 rfl rfl hl.1 (Nat.le_of_ble_eq_true rfl) dX1_feed_22 ⟨Nat.le_refl _, Nat.le_refl _⟩ rfl (fun H locs hR hS => ?_)
    have hR : RS G K (ov I [(1, o, rr4.1)]) J X (ova A [((o + 1), rr4.2)]) B Q H := hR.to (ov_merge (l := [(1, o, rr3.1)]) rfl [0] [(1, o, rr4.1)] rfl rfl) rfl rfl (ova_merge (l := [((o + 1), rr3.2)]) hN_A [0] [((o + 1), rr4.2)] rfl rfl) rfl rfl
    refine lv_aload_n hx hb dX1_feed_25 rfl (lv_at hl 0 rfl) ?_
    refine lv_iload_n hx hb dX1_feed_26 rfl (lv_at hl 3 rfl) ?_
    obtain ⟨rr5, hrr5, hf⟩ := bind_s hf
    refine g0_cVv (rm := (0, 0)) (As := [.int p3]) (rest := []) ⟨hx, hb, hml, hown, hts⟩ hG hR hS (m1_four l G K (ov I [(1, o, rr4.1)]) J X (ova A [((o + 1), rr4.2)]) B Q o sh_o p3 rr4.1 rr4.2 (ov_get 0 rfl rfl) (ova_get 0 hN_A rfl) rr5 hrr5) (cwV 1 hts gi_X1_218 rfl rfl rfl hd_X1_four ⟨Nat.le_of_ble_eq_true rfl, Nat.le_of_ble_eq_true rfl⟩) sh_o.1 rfl rfl hl.1 (Nat.le_of_ble_eq_true rfl) dX1_feed_27 ⟨Nat.le_refl _, Nat.le_refl _⟩ rfl (fun H locs hR hS => ?_)
    have hR : RS G K (ov I [(1, o, rr5.1)]) J X (ova A [((o + 1), rr5.2)]) B Q H := hR.to (ov_merge (l := [(1, o, rr4.1)]) rfl [0] [(1, o, rr5.1)] rfl rfl) rfl rfl (ova_merge (l := [((o + 1), rr4.2)]) hN_A [0] [((o + 1), rr5.2)] rfl rfl) rfl rfl
    refine lv_aload_n hx hb dX1_feed_30 rfl (lv_at hl 0 rfl) ?_
    refine lv_iload hx hb dX1_feed_31 (lv_at hl 4 rfl) ?_
    obtain ⟨rr6, hrr6, hf⟩ := bind_s hf
    refine g0_cVv (rm := (0, 0)) (As := [.int p4]) (rest := []) ⟨hx, hb, hml, hown, hts⟩ hG hR hS (m1_four l G K (ov I [(1, o, rr5.1)]) J X (ova A [((o + 1), rr5.2)]) B Q o sh_o p4 rr5.1 rr5.2 (ov_get 0 rfl rfl) (ova_get 0 hN_A rfl) rr6 hrr6) (cwV 1 hts gi_X1_218 rfl rfl rfl hd_X1_four ⟨Nat.le_of_ble_eq_true rfl, Nat.le_of_ble_eq_true rfl⟩) sh_o.1 rfl rfl hl.1 (Nat.le_of_ble_eq_true rfl) dX1_feed_33 ⟨Nat.le_refl _, Nat.le_refl _⟩ rfl (fun H locs hR hS => ?_)
    have hR : RS G K (ov I [(1, o, rr6.1)]) J X (ova A [((o + 1), rr6.2)]) B Q H := hR.to (ov_merge (l := [(1, o, rr5.1)]) rfl [0] [(1, o, rr6.1)] rfl rfl) rfl rfl (ova_merge (l := [((o + 1), rr5.2)]) hN_A [0] [((o + 1), rr6.2)] rfl rfl) rfl rfl
    refine lv_aload_n hx hb dX1_feed_36 rfl (lv_at hl 0 rfl) ?_
    refine lv_iload hx hb dX1_feed_37 (lv_at hl 5 rfl) ?_
    obtain ⟨rr7, hrr7, hf⟩ := bind_s hf
    refine g0_cVv (rm := (0, 0)) (As := [.int p5]) (rest := []) ⟨hx, hb, hml, hown, hts⟩ hG hR hS (m1_four l G K (ov I [(1, o, rr6.1)]) J X (ova A [((o + 1), rr6.2)]) B Q o sh_o p5 rr6.1 rr6.2 (ov_get 0 rfl rfl) (ova_get 0 hN_A rfl) rr7 hrr7) (cwV 1 hts gi_X1_218 rfl rfl rfl hd_X1_four ⟨Nat.le_of_ble_eq_true rfl, Nat.le_of_ble_eq_true rfl⟩) sh_o.1 rfl rfl hl.1 (Nat.le_of_ble_eq_true rfl) dX1_feed_39 ⟨Nat.le_refl _, Nat.le_refl _⟩ rfl (fun H locs hR hS => ?_)
    have hR : RS G K (ov I [(1, o, rr7.1)]) J X (ova A [((o + 1), rr7.2)]) B Q H := hR.to (ov_merge (l := [(1, o, rr6.1)]) rfl [0] [(1, o, rr7.1)] rfl rfl) rfl rfl (ova_merge (l := [((o + 1), rr6.2)]) hN_A [0] [((o + 1), rr7.2)] rfl rfl) rfl rfl
    refine lv_aload_n hx hb dX1_feed_42 rfl (lv_at hl 0 rfl) ?_
    refine n_geti (v := rr7.1) hx hb hts hown hG hR gFi_X1_214_0 sh_o.1 (ov_get 0 rfl rfl) dX1_feed_43 ?_
    obtain rfl := some_i hf
    exact hend _ _ _ _ dX1_feed_46 hR hS
  · have hf := ite_f c2 hf
    refine lv_iconst (v := -1) hx hb dX1_feed_13 li_m1 ?_
    obtain rfl := some_i hf
    exact hend _ _ _ _ dX1_feed_14 hR hS
