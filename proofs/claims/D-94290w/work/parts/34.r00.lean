/-! the walks of the readers (printed by tools) 0 -/
set_option maxRecDepth 100000
noncomputable def f6_peekY (i_h_size : Int32) (i_p : Int32) (a_h_tape : Nat → Int32) : Option (Int32) :=
  if i_h_size ≤ i_p then
    some (-1 : Int32)
  else
    gd (inb i_p 740) <|
    lt (a_h_tape i_p.toNatClampNeg) fun v3 =>
    lt (v3 &&& (255 : Int32)) fun v4 =>
    some v4
set_option maxHeartbeats 4000000 in
theorem m6_peekY (l : Launch) (G : gG) (K : gK) (I : gI) (J : gJ) (X : gX) (A : gI) (B : gJ) (Q : gX) (o : Nat) (h : Nat) (sh_o : Sh K X o 5 rows5) (sh_h : Sh K X h 0 rows0) (x_o_thisR : X 507 o = some h)  (i_h_size : Int32) (i_p : Int32) (a_h_tape : Nat → Int32) (e_i_h_size : I 2 h = i_h_size) (e_i_p : I 501 o = i_p) (e_a_h_tape : A (h + 1) = a_h_tape) (out : Int32) (hf : f6_peekY i_h_size i_p a_h_tape = some out) : GMet l yX6_peek cX6_peek 1 (some .int) (0) (0) G [.ref o] K I J X A B Q (some (.int out)) K I J X A B Q 0 0 := by
  refine GMet.of (y := yX6_peek) rfl (Nat.le_of_ble_eq_true rfl) rfl ?_
  intro p e s m below meth c ls hx hb hr hml hlocks hts hown hname hG hR hl
  have hown : s.vm.findClass RX6 = some m.cls := hown
  have k_a_h_tape : K (h + 1) = some (.inr (2, 740)) := (sh_h.2 0 _ rfl).1
  have hR : RS G K I J X A B Q s.heap := hR.to rfl rfl rfl rfl rfl rfl
  have hS : va_S (gA G) s.heap s.heap [] := va_S.rf
  have hend : ∀ (pc : Nat) (H : Heap) (locs : List Loc) (ls : Array Slot), decode cX6_peek pc = .ok (.ireturn, 1) → RS G K I J X A B Q H → va_S (gA G) s.heap H locs → W p l e ({ frames := 0, cells := 0, slots := 0, locals := 0 } : Room) s m ([.ref o] : List Value).toArray below meth c H locs 0 0 (MQ below (gQ G (some (.int out)) K I J X A B Q) ([.ref o] : List Value).toArray s 0 0 (gA G)) (F0 m pc ls [.int out]) := fun pc H locs ls hd hR hS => g_iret hx hb hr hlocks hG hR hS rfl hd
  generalize MQ below (gQ G (some (.int out)) K I J X A B Q) ([.ref o] : List Value).toArray s 0 0 (gA G) = Z at hend ⊢
  generalize ([.ref o] : List Value).toArray = args at hts hend ⊢
  unfold f6_peekY at hf
  refine lv_aload_n hx hb dX6_peek_0 rfl (lv_at hl 0 rfl) ?_
  refine n_geti (v := i_p) hx hb hts hown hG hR gFi_X6_19_5 sh_o.1 e_i_p dX6_peek_1 ?_
  refine lv_aload_n hx hb dX6_peek_4 rfl (lv_at hl 0 rfl) ?_
  refine g_getr (b := h) hx hb hts hown hG hR gFx_X6_3_5 sh_o.1 x_o_thisR dX6_peek_5 ?_
  refine n_geti (v := i_h_size) hx hb hts hown hG hR gFi_X6_25_0 sh_h.1 e_i_h_size dX6_peek_8 ?_
  refine lv_icmp_ge (tgt := 33) hx hb dX6_peek_11 (by decide) (fun c1 => ?_) (fun c1 => ?_)
  · have hf := ite_t c1 hf
    refine lv_iconst (v := -1) hx hb dX6_peek_33 li_m1 ?_
    obtain rfl := some_i hf
    exact hend _ _ _ _ dX6_peek_34 hR hS
  · have hf := ite_f c1 hf
    refine lv_aload_n hx hb dX6_peek_14 rfl (lv_at hl 0 rfl) ?_
    refine g_getr (b := h) hx hb hts hown hG hR gFx_X6_3_5 sh_o.1 x_o_thisR dX6_peek_15 ?_
    refine g_getr (b := (h + 1)) hx hb hts hown hG hR gFx_X6_28_0 sh_h.1 ((sh_h.2 0 _ rfl).2) dX6_peek_18 ?_
    refine lv_aload_n hx hb dX6_peek_21 rfl (lv_at hl 0 rfl) ?_
    refine n_geti (v := i_p) hx hb hts hown hG hR gFi_X6_19_5 sh_o.1 e_i_p dX6_peek_22 ?_
    obtain ⟨c2, hf⟩ := gd_some hf
    obtain ⟨v3, ev3, hf⟩ := lt_some hf
    refine n_bald (x := a_h_tape) hx hb hG hR k_a_h_tape c2 e_a_h_tape ev3 dX6_peek_25 ?_
    refine lv_sipush (v := 255) hx hb dX6_peek_26 ls_255 ?_
    obtain ⟨v4, ev4, hf⟩ := lt_some hf
    refine n_iand hx hb ev4 dX6_peek_29 ?_
    refine lv_goto (tgt := 34) hx hb dX6_peek_30 (by decide) ?_
    obtain rfl := some_i hf
    exact hend _ _ _ _ dX6_peek_34 hR hS
noncomputable def f6_isLetterY (p1 : Int32) : Option (Int32) :=
  (f1_isIn p1 (97 : Int32) (122 : Int32)).bind fun rr1 =>
  gd (rr1 &&& 1 = rr1) <|
  some rr1
set_option maxHeartbeats 4000000 in
theorem m6_isLetterY (l : Launch) (G : gG) (K : gK) (I : gI) (J : gJ) (X : gX) (A : gI) (B : gJ) (Q : gX) (o : Nat) (h : Nat) (sh_o : Sh K X o 5 rows5) (sh_h : Sh K X h 0 rows0) (x_o_thisR : X 507 o = some h) (p1 : Int32)   (out : Int32) (hf : f6_isLetterY p1 = some out) : GMet l yX6_isLetter cX6_isLetter 2 (some .boolean) (1) (22) G [.ref o, .int p1] K I J X A B Q (some (.int out)) K I J X A B Q 0 0 := by
  refine GMet.of (y := yX6_isLetter) rfl (Nat.le_of_ble_eq_true rfl) rfl ?_
  intro p e s m below meth c ls hx hb hr hml hlocks hts hown hname hG hR hl
  have hown : s.vm.findClass RX6 = some m.cls := hown
  have hR : RS G K I J X A B Q s.heap := hR.to rfl rfl rfl rfl rfl rfl
  have hS : va_S (gA G) s.heap s.heap [] := va_S.rf
  have hend : ∀ (pc : Nat) (H : Heap) (locs : List Loc) (ls : Array Slot), decode cX6_isLetter pc = .ok (.ireturn, 1) → narrow .boolean (.int out) = .int out → RS G K I J X A B Q H → va_S (gA G) s.heap H locs → W p l e ({ frames := 1, cells := 0, slots := 0, locals := 22 } : Room) s m ([.ref o, .int p1] : List Value).toArray below meth c H locs 0 0 (MQ below (gQ G (some (.int out)) K I J X A B Q) ([.ref o, .int p1] : List Value).toArray s 0 0 (gA G)) (F0 m pc ls [.int out]) := fun pc H locs ls hd hz hR hS => g_zret hx hb hr hlocks hz hG hR hS rfl hd
  generalize MQ below (gQ G (some (.int out)) K I J X A B Q) ([.ref o, .int p1] : List Value).toArray s 0 0 (gA G) = Z at hend ⊢
  generalize ([.ref o, .int p1] : List Value).toArray = args at hts hend ⊢
  unfold f6_isLetterY at hf
  refine lv_iload_n hx hb dX6_isLetter_0 rfl (lv_at hl 1 rfl) ?_
  refine lv_bipush (v := 97) hx hb dX6_isLetter_1 lb_97 ?_
  refine lv_bipush (v := 122) hx hb dX6_isLetter_3 lb_122 ?_
  obtain ⟨rr1, hrr1, hf⟩ := bind_s hf
  refine g0_cSN (rm := (0, 0)) (As := [.int p1, .int (97 : Int32), .int (122 : Int32)]) (rest := []) ⟨hx, hb, hml, hown, hts⟩ hG hR hS (m1_isIn l G K I J X A B Q p1 (97 : Int32) (122 : Int32) rr1 hrr1) ⟨va_cnB 3 hts (lw_meth q862) rfl rfl rfl (hG.2 _ q860 rfl) (hts _ q103) hd_X1_isIn.2 ⟨Nat.le_of_ble_eq_true rfl, Nat.le_of_ble_eq_true rfl⟩, hts _ q861, trivial⟩ rfl hl.1 (Nat.le_of_ble_eq_true rfl) dX6_isLetter_5 ⟨Nat.le_refl _, Nat.le_refl _⟩ rfl (fun H locs hR hS => ?_)
  obtain ⟨hz9, hf⟩ := gd_some hf
  obtain rfl := some_i hf
  exact hend _ _ _ _ dX6_isLetter_8 (congrArg Value.int hz9) hR hS
noncomputable def f6_isDigitY (p1 : Int32) : Option (Int32) :=
  (f1_isIn p1 (48 : Int32) (57 : Int32)).bind fun rr1 =>
  gd (rr1 &&& 1 = rr1) <|
  some rr1
set_option maxHeartbeats 4000000 in
theorem m6_isDigitY (l : Launch) (G : gG) (K : gK) (I : gI) (J : gJ) (X : gX) (A : gI) (B : gJ) (Q : gX) (o : Nat) (h : Nat) (sh_o : Sh K X o 5 rows5) (sh_h : Sh K X h 0 rows0) (x_o_thisR : X 507 o = some h) (p1 : Int32)   (out : Int32) (hf : f6_isDigitY p1 = some out) : GMet l yX6_isDigit cX6_isDigit 2 (some .boolean) (1) (22) G [.ref o, .int p1] K I J X A B Q (some (.int out)) K I J X A B Q 0 0 := by
  refine GMet.of (y := yX6_isDigit) rfl (Nat.le_of_ble_eq_true rfl) rfl ?_
  intro p e s m below meth c ls hx hb hr hml hlocks hts hown hname hG hR hl
  have hown : s.vm.findClass RX6 = some m.cls := hown
  have hR : RS G K I J X A B Q s.heap := hR.to rfl rfl rfl rfl rfl rfl
  have hS : va_S (gA G) s.heap s.heap [] := va_S.rf
  have hend : ∀ (pc : Nat) (H : Heap) (locs : List Loc) (ls : Array Slot), decode cX6_isDigit pc = .ok (.ireturn, 1) → narrow .boolean (.int out) = .int out → RS G K I J X A B Q H → va_S (gA G) s.heap H locs → W p l e ({ frames := 1, cells := 0, slots := 0, locals := 22 } : Room) s m ([.ref o, .int p1] : List Value).toArray below meth c H locs 0 0 (MQ below (gQ G (some (.int out)) K I J X A B Q) ([.ref o, .int p1] : List Value).toArray s 0 0 (gA G)) (F0 m pc ls [.int out]) := fun pc H locs ls hd hz hR hS => g_zret hx hb hr hlocks hz hG hR hS rfl hd
  generalize MQ below (gQ G (some (.int out)) K I J X A B Q) ([.ref o, .int p1] : List Value).toArray s 0 0 (gA G) = Z at hend ⊢
  generalize ([.ref o, .int p1] : List Value).toArray = args at hts hend ⊢
  unfold f6_isDigitY at hf
  refine lv_iload_n hx hb dX6_isDigit_0 rfl (lv_at hl 1 rfl) ?_
  refine lv_bipush (v := 48) hx hb dX6_isDigit_1 lb_48 ?_
  refine lv_bipush (v := 57) hx hb dX6_isDigit_3 lb_57 ?_
  obtain ⟨rr1, hrr1, hf⟩ := bind_s hf
  refine g0_cSN (rm := (0, 0)) (As := [.int p1, .int (48 : Int32), .int (57 : Int32)]) (rest := []) ⟨hx, hb, hml, hown, hts⟩ hG hR hS (m1_isIn l G K I J X A B Q p1 (48 : Int32) (57 : Int32) rr1 hrr1) ⟨va_cnB 3 hts (lw_meth q862) rfl rfl rfl (hG.2 _ q860 rfl) (hts _ q103) hd_X1_isIn.2 ⟨Nat.le_of_ble_eq_true rfl, Nat.le_of_ble_eq_true rfl⟩, hts _ q861, trivial⟩ rfl hl.1 (Nat.le_of_ble_eq_true rfl) dX6_isDigit_5 ⟨Nat.le_refl _, Nat.le_refl _⟩ rfl (fun H locs hR hS => ?_)
  obtain ⟨hz9, hf⟩ := gd_some hf
  obtain rfl := some_i hf
  exact hend _ _ _ _ dX6_isDigit_8 (congrArg Value.int hz9) hR hS
noncomputable def f6_runY_j169 (x1_0 : Int32 × Int32 × Int32 × Int64) (v2 : Int32) (j169_i_token : Int32) : Option (Int32 × Int32 × Int32 × Int32 × Int64) :=
  some (x1_0.2.1, (4 : Int32), x1_0.2.2.1, v2, x1_0.2.2.2)

noncomputable def f6_runY_j166 (p1 : Int32) (i_token : Int32) (x1_0 : Int32 × Int32 × Int32 × Int64) (v2 : Int32) (j166_s0 : Int32) : Option (Int32 × Int32 × Int32 × Int32 × Int64) :=
  if v2 ≤ j166_s0 then
    if p1 = 0 then
      some (x1_0.2.1, (2 : Int32), x1_0.2.2.1, v2, x1_0.2.2.2)
    else
      some (x1_0.2.1, (1 : Int32), x1_0.2.2.1, v2, x1_0.2.2.2)
  else
    f6_runY_j169 x1_0 v2 i_token

noncomputable def f6_runY_e1_0 (p1 : Int32) (i_at : Int32) (i_token : Int32) (x1_0 : Int32 × Int32 × Int32 × Int64) : Option (Int32 × Int32 × Int32 × Int32 × Int64) :=
  lt (x1_0.2.1 - i_at) fun v2 =>
  if x1_0.1 = 0 then
    f6_runY_j169 x1_0 v2 i_token
  else
    if p1 = 0 then
      f6_runY_j166 p1 i_token x1_0 v2 (8 : Int32)
    else
      f6_runY_j166 p1 i_token x1_0 v2 (6 : Int32)

noncomputable def f6_runY_j120 (w1_i_p : Int32) (j55_s0 : Int32) (j87_j_name : Int64) (j120_i_value : Int32) : Option ((Int32 × Int32 × Int32 × Int64) ⊕ (Int32 × Int32 × Int32 × Int64)) :=
  lt (w1_i_p + (1 : Int32)) fun v11 =>
  some (.inl (j55_s0, v11, j120_i_value, j87_j_name))

noncomputable def f6_runY_j87 (i_h_size : Int32) (i_at : Int32) (a_h_tape : Nat → Int32) (w1_i_p : Int32) (w1_i_value : Int32) (j55_s0 : Int32) (j87_j_name : Int64) : Option ((Int32 × Int32 × Int32 × Int64) ⊕ (Int32 × Int32 × Int32 × Int64)) :=
  lt (w1_i_p - i_at) fun v10 =>
  if (8 : Int32) ≤ v10 then
    f6_runY_j120 w1_i_p j55_s0 j87_j_name w1_i_value
  else
    lt ((10 : Int32) * w1_i_value) fun v13 =>
    (f6_peekY i_h_size w1_i_p a_h_tape).bind fun rr14 =>
    lt (v13 + rr14) fun v15 =>
    lt (v15 - (48 : Int32)) fun v16 =>
    f6_runY_j120 w1_i_p j55_s0 j87_j_name v16

noncomputable def f6_runY_j55 (i_h_size : Int32) (i_at : Int32) (a_h_tape : Nat → Int32) (w1_i_p : Int32) (w1_i_value : Int32) (w1_j_name : Int64) (j55_s0 : Int32) : Option ((Int32 × Int32 × Int32 × Int64) ⊕ (Int32 × Int32 × Int32 × Int64)) :=
  lt (w1_i_p - i_at) fun v9 =>
  if (6 : Int32) ≤ v9 then
    f6_runY_j87 i_h_size i_at a_h_tape w1_i_p w1_i_value j55_s0 w1_j_name
  else
    lt (w1_j_name <<< ((8 : Int32).toInt64 &&& 63)) fun v18 =>
    (f6_peekY i_h_size w1_i_p a_h_tape).bind fun rr19 =>
    lt (rr19.toInt64) fun v20 =>
    lt (v18 ||| v20) fun v21 =>
    f6_runY_j87 i_h_size i_at a_h_tape w1_i_p w1_i_value j55_s0 v21

noncomputable def f6_runY_j54 (i_h_size : Int32) (i_at : Int32) (a_h_tape : Nat → Int32) (w1_i_p : Int32) (w1_i_value : Int32) (w1_j_name : Int64) : Option ((Int32 × Int32 × Int32 × Int64) ⊕ (Int32 × Int32 × Int32 × Int64)) :=
  f6_runY_j55 i_h_size i_at a_h_tape w1_i_p w1_i_value w1_j_name (0 : Int32)

noncomputable def f6_runY_j34 (p1 : Int32) (i_h_size : Int32) (i_at : Int32) (a_h_tape : Nat → Int32) (w1_2 : Int32) (w1_i_p : Int32) (w1_i_value : Int32) (w1_j_name : Int64) : Option ((Int32 × Int32 × Int32 × Int64) ⊕ (Int32 × Int32 × Int32 × Int64)) :=
  if w1_2 = 0 then
    f6_runY_j54 i_h_size i_at a_h_tape w1_i_p w1_i_value w1_j_name
  else
    (f6_peekY i_h_size w1_i_p a_h_tape).bind fun rr23 =>
    (f6_isLetterY rr23).bind fun rr24 =>
    if rr24 = p1 then
      f6_runY_j55 i_h_size i_at a_h_tape w1_i_p w1_i_value w1_j_name (1 : Int32)
    else
      f6_runY_j54 i_h_size i_at a_h_tape w1_i_p w1_i_value w1_j_name

noncomputable def f6_runY_s1 (p1 : Int32) (i_h_size : Int32) (i_at : Int32) (a_h_tape : Nat → Int32) (w1_2 : Int32) (w1_i_p : Int32) (w1_i_value : Int32) (w1_j_name : Int64) : Option ((Int32 × Int32 × Int32 × Int64) ⊕ (Int32 × Int32 × Int32 × Int64)) :=
  (f6_peekY i_h_size w1_i_p a_h_tape).bind fun rr7 =>
  (f6_isLetterY rr7).bind fun rr8 =>
  if rr8 = 0 then
    (f6_peekY i_h_size w1_i_p a_h_tape).bind fun rr27 =>
    (f6_isDigitY rr27).bind fun rr28 =>
    if rr28 = 0 then
      some (.inr (w1_2, w1_i_p, w1_i_value, w1_j_name))
    else
      f6_runY_j34 p1 i_h_size i_at a_h_tape w1_2 w1_i_p w1_i_value w1_j_name
  else
    f6_runY_j34 p1 i_h_size i_at a_h_tape w1_2 w1_i_p w1_i_value w1_j_name

noncomputable def f6_runY (p1 : Int32) (i_h_size : Int32) (i_p : Int32) (i_at : Int32) (i_token : Int32) (i_value : Int32) (i_many : Int32) (j_name : Int64) (a_h_tape : Nat → Int32) : Option (Int32 × Int32 × Int32 × Int32 × Int64) :=
  (whl (fun (s1 : Int32 × Int32 × Int32 × Int64) => f6_runY_s1 p1 i_h_size i_at a_h_tape s1.1 s1.2.1 s1.2.2.1 s1.2.2.2) FU ((1 : Int32), i_p, (0 : Int32), (0 : Int64))).bind fun rl1 =>
  f6_runY_e1_0 p1 i_at i_token rl1
set_option maxHeartbeats 4000000 in
theorem m6_runY (l : Launch) (G : gG) (K : gK) (I : gI) (J : gJ) (X : gX) (A : gI) (B : gJ) (Q : gX) (o : Nat) (h : Nat) (sh_o : Sh K X o 5 rows5) (sh_h : Sh K X h 0 rows0) (x_o_thisR : X 507 o = some h) (p1 : Int32) (i_h_size : Int32) (i_p : Int32) (i_at : Int32) (i_token : Int32) (i_value : Int32) (i_many : Int32) (j_name : Int64) (a_h_tape : Nat → Int32) (e_i_h_size : I 2 h = i_h_size) (e_i_p : I 501 o = i_p) (e_i_at : I 502 o = i_at) (e_i_token : I 503 o = i_token) (e_i_value : I 504 o = i_value) (e_i_many : I 505 o = i_many) (e_j_name : J 506 o = j_name) (e_a_h_tape : A (h + 1) = a_h_tape) (out : Int32 × Int32 × Int32 × Int32 × Int64) (hf : f6_runY p1 i_h_size i_p i_at i_token i_value i_many j_name a_h_tape = some out) : GMet l yX6_run cX6_run 3 none (2) (43) G [.ref o, .int p1] K I J X A B Q none K (ov I [(501, o, out.1), (503, o, out.2.1), (504, o, out.2.2.1), (505, o, out.2.2.2.1)]) (ov J [(506, o, out.2.2.2.2)]) X A B Q 0 0 := by
  refine GMet.of (y := yX6_run) rfl (Nat.le_of_ble_eq_true rfl) rfl ?_
  intro p e s m below meth c ls hx hb hr hml hlocks hts hown hname hG hR hl
  have hown : s.vm.findClass RX6 = some m.cls := hown
  have k_a_h_tape : K (h + 1) = some (.inr (2, 740)) := (sh_h.2 0 _ rfl).1
  have hR : RS G K (ov I [(501, o, i_p), (503, o, i_token), (504, o, i_value), (505, o, i_many)]) (ov J [(506, o, j_name)]) X A B Q s.heap := hR.to (Eq.symm (ov_sc e_i_p (ov_sc e_i_token (ov_sc e_i_value (ov_sc e_i_many rfl))))) (Eq.symm (ov_sc e_j_name rfl)) rfl rfl rfl rfl
  have hS : va_S (gA G) s.heap s.heap [] := va_S.rf
  have hend : ∀ (pc : Nat) (H : Heap) (locs : List Loc) (ls : Array Slot), decode cX6_run pc = .ok (.return_, 1) → RS G K (ov I [(501, o, out.1), (503, o, out.2.1), (504, o, out.2.2.1), (505, o, out.2.2.2.1)]) (ov J [(506, o, out.2.2.2.2)]) X A B Q H → va_S (gA G) s.heap H locs → W p l e ({ frames := 2, cells := 0, slots := 0, locals := 43 } : Room) s m ([.ref o, .int p1] : List Value).toArray below meth c H locs 0 0 (MQ below (gQ G none K (ov I [(501, o, out.1), (503, o, out.2.1), (504, o, out.2.2.1), (505, o, out.2.2.2.1)]) (ov J [(506, o, out.2.2.2.2)]) X A B Q) ([.ref o, .int p1] : List Value).toArray s 0 0 (gA G)) (F0 m pc ls []) := fun pc H locs ls hd hR hS => g_vret hx hb hr hlocks hG hR hS rfl hd
  generalize MQ below (gQ G none K (ov I [(501, o, out.1), (503, o, out.2.1), (504, o, out.2.2.1), (505, o, out.2.2.2.1)]) (ov J [(506, o, out.2.2.2.2)]) X A B Q) ([.ref o, .int p1] : List Value).toArray s 0 0 (gA G) = Z at hend ⊢
  generalize ([.ref o, .int p1] : List Value).toArray = args at hts hend ⊢
  unfold f6_runY at hf
  refine lv_iconst (v := 1) hx hb dX6_run_0 li_1 ?_
  refine lv_istore_n (lv' := [(2, .int (1 : Int32)), (0, .ref o), (1, .int p1)]) hx hb dX6_run_1 rfl hl (by decide) rfl (fun ls hl => ?_)
  refine lv_aload_n hx hb dX6_run_2 rfl (lv_at hl 1 rfl) ?_
  refine lv_iconst (v := 0) hx hb dX6_run_3 li_0 ?_
  refine n_puti (li' := [(501, o, i_p), (503, o, i_token), (504, o, (0 : Int32)), (505, o, i_many)]) hx hb hts hown hG hR hS gPi_X6_57_5 sh_o.1 2 rfl rfl rfl dX6_run_4 (fun H locs hR hS => ?_)
  refine lv_aload_n hx hb dX6_run_7 rfl (lv_at hl 1 rfl) ?_
  refine lv_lconst (v := 0) hx hb dX6_run_8 rfl ?_
  refine n_putj (li' := [(506, o, (0 : Int64))]) hx hb hts hown hG hR hS gPj_X6_60_5 sh_o.1 0 rfl rfl rfl dX6_run_9 (fun H locs hR hS => ?_)
  obtain ⟨rl1, hw1, hfo1⟩ := bind_s hf
  have hx1_0 : ∀ (x1_0 : Int32 × Int32 × Int32 × Int64), f6_runY_e1_0 p1 i_at i_token x1_0 = some out → ∀ (H : Heap) (locs : List Loc) (ls : Array Slot), RS G K (ov I [(501, o, x1_0.2.1), (503, o, i_token), (504, o, x1_0.2.2.1), (505, o, i_many)]) (ov J [(506, o, x1_0.2.2.2)]) X A B Q H → va_S (gA G) s.heap H locs → lv_has ls 3 [(0, .ref o), (1, .int p1), (2, .int x1_0.1)] → W p l e ({ frames := 2, cells := 0, slots := 0, locals := 43 } : Room) s m args below meth c H locs 0 0 Z (F0 m 133 ls []) := by
    intro x1_0 hf H locs ls hR hS hl
    unfold f6_runY_e1_0 at hf
    refine lv_aload_n hx hb dX6_run_133 rfl (lv_at hl 0 rfl) ?_
    refine lv_aload_n hx hb dX6_run_134 rfl (lv_at hl 0 rfl) ?_
    refine n_geti (v := x1_0.2.1) hx hb hts hown hG hR gFi_X6_19_5 sh_o.1 (ov_get 0 rfl rfl) dX6_run_135 ?_
    refine lv_aload_n hx hb dX6_run_138 rfl (lv_at hl 0 rfl) ?_
    refine n_geti (v := i_at) hx hb hts hown hG hR gFi_X6_40_5 sh_o.1 ((congrFun (ov_no rfl) _).trans e_i_at) dX6_run_139 ?_
    obtain ⟨v2, ev2, hf⟩ := lt_some hf
    refine n_isub hx hb ev2 dX6_run_142 ?_
    refine n_puti (li' := [(501, o, x1_0.2.1), (503, o, i_token), (504, o, x1_0.2.2.1), (505, o, v2)]) hx hb hts hown hG hR hS gPi_X6_64_5 sh_o.1 3 rfl rfl rfl dX6_run_143 (fun H locs hR hS => ?_)
    refine lv_aload_n hx hb dX6_run_146 rfl (lv_at hl 0 rfl) ?_
    refine lv_iload_n hx hb dX6_run_147 rfl (lv_at hl 2 rfl) ?_
    have hj169 : ∀ (j169_i_token : Int32), f6_runY_j169 x1_0 v2 j169_i_token = some out → ∀ (H : Heap) (locs : List Loc) (ls : Array Slot), RS G K (ov I [(501, o, x1_0.2.1), (503, o, j169_i_token), (504, o, x1_0.2.2.1), (505, o, v2)]) (ov J [(506, o, x1_0.2.2.2)]) X A B Q H → va_S (gA G) s.heap H locs → lv_has ls 3 [(0, .ref o)] → W p l e ({ frames := 2, cells := 0, slots := 0, locals := 43 } : Room) s m args below meth c H locs 0 0 Z (F0 m 169 ls [.ref o]) := by
      intro j169_i_token hf H locs ls hR hS hl
      unfold f6_runY_j169 at hf
      refine lv_iconst (v := 4) hx hb dX6_run_169 li_4 ?_
      refine lv_goto (tgt := 182) hx hb dX6_run_170 (by decide) ?_
      refine n_puti (li' := [(501, o, x1_0.2.1), (503, o, (4 : Int32)), (504, o, x1_0.2.2.1), (505, o, v2)]) hx hb hts hown hG hR hS gPi_X6_43_5 sh_o.1 1 rfl rfl rfl dX6_run_182 (fun H locs hR hS => ?_)
      obtain rfl := some_i hf
      exact hend _ _ _ _ dX6_run_185 hR hS
    refine lv_if_eq (tgt := 169) hx hb dX6_run_148 (by decide) (fun c3 => ?_) (fun c3 => ?_)
    · have hf := ite_t c3 hf
      exact hj169 i_token hf _ _ _ hR hS (lv_sub hl [0] rfl)
    · have hf := ite_f c3 hf
      refine lv_aload_n hx hb dX6_run_151 rfl (lv_at hl 0 rfl) ?_
      refine n_geti (v := v2) hx hb hts hown hG hR gFi_X6_64_5 sh_o.1 (ov_get 3 rfl rfl) dX6_run_152 ?_
      refine lv_iload_n hx hb dX6_run_155 rfl (lv_at hl 1 rfl) ?_
      have hj166 : ∀ (j166_s0 : Int32), f6_runY_j166 p1 i_token x1_0 v2 j166_s0 = some out → ∀ (H : Heap) (locs : List Loc) (ls : Array Slot), RS G K (ov I [(501, o, x1_0.2.1), (503, o, i_token), (504, o, x1_0.2.2.1), (505, o, v2)]) (ov J [(506, o, x1_0.2.2.2)]) X A B Q H → va_S (gA G) s.heap H locs → lv_has ls 3 [(0, .ref o), (1, .int p1)] → W p l e ({ frames := 2, cells := 0, slots := 0, locals := 43 } : Room) s m args below meth c H locs 0 0 Z (F0 m 166 ls [.int j166_s0, .int v2, .ref o]) := by
        intro j166_s0 hf H locs ls hR hS hl
        unfold f6_runY_j166 at hf
        refine lv_icmp_le (tgt := 173) hx hb dX6_run_166 (by decide) (fun c4 => ?_) (fun c4 => ?_)
        · have hf := ite_t c4 hf
          refine lv_iload_n hx hb dX6_run_173 rfl (lv_at hl 1 rfl) ?_
          refine lv_if_eq (tgt := 181) hx hb dX6_run_174 (by decide) (fun c5 => ?_) (fun c5 => ?_)
          · have hf := ite_t c5 hf
            refine lv_iconst (v := 2) hx hb dX6_run_181 li_2 ?_
            refine n_puti (li' := [(501, o, x1_0.2.1), (503, o, (2 : Int32)), (504, o, x1_0.2.2.1), (505, o, v2)]) hx hb hts hown hG hR hS gPi_X6_43_5 sh_o.1 1 rfl rfl rfl dX6_run_182 (fun H locs hR hS => ?_)
            obtain rfl := some_i hf
            exact hend _ _ _ _ dX6_run_185 hR hS
          · have hf := ite_f c5 hf
            refine lv_iconst (v := 1) hx hb dX6_run_177 li_1 ?_
            refine lv_goto (tgt := 182) hx hb dX6_run_178 (by decide) ?_
            refine n_puti (li' := [(501, o, x1_0.2.1), (503, o, (1 : Int32)), (504, o, x1_0.2.2.1), (505, o, v2)]) hx hb hts hown hG hR hS gPi_X6_43_5 sh_o.1 1 rfl rfl rfl dX6_run_182 (fun H locs hR hS => ?_)
            obtain rfl := some_i hf
            exact hend _ _ _ _ dX6_run_185 hR hS
        · have hf := ite_f c4 hf
          exact hj169 i_token hf _ _ _ hR hS (lv_sub hl [0] rfl)
      refine lv_if_eq (tgt := 164) hx hb dX6_run_156 (by decide) (fun c6 => ?_) (fun c6 => ?_)
      · have hf := ite_t c6 hf
        refine lv_bipush (v := 8) hx hb dX6_run_164 lb_8 ?_
        exact hj166 (8 : Int32) hf _ _ _ hR hS (lv_sub hl [0, 1] rfl)
      · have hf := ite_f c6 hf
        refine lv_bipush (v := 6) hx hb dX6_run_159 lb_6 ?_
        refine lv_goto (tgt := 166) hx hb dX6_run_161 (by decide) ?_
        exact hj166 (6 : Int32) hf _ _ _ hR hS (lv_sub hl [0, 1] rfl)
  refine whl_walk (P := fun (s1 : Int32 × Int32 × Int32 × Int64) => ∀ (H : Heap) (locs : List Loc) (ls : Array Slot), RS G K (ov I [(501, o, s1.2.1), (503, o, i_token), (504, o, s1.2.2.1), (505, o, i_many)]) (ov J [(506, o, s1.2.2.2)]) X A B Q H → va_S (gA G) s.heap H locs → lv_has ls 3 [(0, .ref o), (1, .int p1), (2, .int s1.1)] → W p l e ({ frames := 2, cells := 0, slots := 0, locals := 43 } : Room) s m args below meth c H locs 0 0 Z (F0 m 12 ls [])) (r := rl1) ?_ FU _ hw1 _ _ _ hR hS (lv_sub hl [1, 2, 0] rfl)
  clear hR hS hl hf
  intro s1 o1 hf hk1 H locs ls hR hS hl
  obtain ⟨w1_2, w1_i_p, w1_i_value, w1_j_name⟩ := s1
  have hf : f6_runY_s1 p1 i_h_size i_at a_h_tape w1_2 w1_i_p w1_i_value w1_j_name = some o1 := hf
  have hR : RS G K (ov I [(501, o, w1_i_p), (503, o, i_token), (504, o, w1_i_value), (505, o, i_many)]) (ov J [(506, o, w1_j_name)]) X A B Q H := hR
  have hl : lv_has ls 3 [(0, .ref o), (1, .int p1), (2, .int w1_2)] := hl
  unfold f6_runY_s1 at hf
  refine lv_aload_n hx hb dX6_run_12 rfl (lv_at hl 0 rfl) ?_
  refine lv_aload_n hx hb dX6_run_13 rfl (lv_at hl 0 rfl) ?_
  obtain ⟨rr7, hrr7, hf⟩ := bind_s hf
  refine g0_cV (rm := (0, 0)) (As := []) (rest := [.ref o]) ⟨hx, hb, hml, hown, hts⟩ hG hR hS (m6_peekY l G K (ov I [(501, o, w1_i_p), (503, o, i_token), (504, o, w1_i_value), (505, o, i_many)]) (ov J [(506, o, w1_j_name)]) X A B Q o h sh_o sh_h x_o_thisR i_h_size w1_i_p a_h_tape ((congrFun (ov_no rfl) _).trans e_i_h_size) (ov_get 0 rfl rfl) e_a_h_tape rr7 hrr7) ⟨callB_of 0 hts (lw_meth q855) rfl rfl rfl (hts _ q110) (hts _ q852) (by decide +kernel) ⟨Nat.le_of_ble_eq_true rfl, Nat.le_of_ble_eq_true rfl⟩, hts _ q854, x_selP (by decide +kernel) (hG.1.1 5 _ rfl).2.1 (va_Nw.use rfl (hG.2 _ q853 rfl)) (hts _ q854) (hts _ q847)⟩ sh_o.1 rfl rfl hl.1 (Nat.le_of_ble_eq_true rfl) dX6_run_14 ⟨Nat.le_refl _, Nat.le_refl _⟩ rfl (fun H locs hR hS => ?_)
  obtain ⟨rr8, hrr8, hf⟩ := bind_s hf
  refine g0_cV (rm := (1, 22)) (As := [.int rr7]) (rest := []) ⟨hx, hb, hml, hown, hts⟩ hG hR hS (m6_isLetterY l G K (ov I [(501, o, w1_i_p), (503, o, i_token), (504, o, w1_i_value), (505, o, i_many)]) (ov J [(506, o, w1_j_name)]) X A B Q o h sh_o sh_h x_o_thisR rr7 rr8 hrr8) ⟨callB_of 1 hts (lw_meth q859) rfl rfl rfl (hts _ q110) (hts _ q856) (by decide +kernel) ⟨Nat.le_of_ble_eq_true rfl, Nat.le_of_ble_eq_true rfl⟩, hts _ q858, x_selP (by decide +kernel) (hG.1.1 5 _ rfl).2.1 (va_Nw.use rfl (hG.2 _ q857 rfl)) (hts _ q858) (hts _ q847)⟩ sh_o.1 rfl rfl hl.1 (Nat.le_of_ble_eq_true rfl) dX6_run_17 ⟨Nat.le_refl _, Nat.le_refl _⟩ rfl (fun H locs hR hS => ?_)
  have hj34 : ∀ (_ : Unit), f6_runY_j34 p1 i_h_size i_at a_h_tape w1_2 w1_i_p w1_i_value w1_j_name = some o1 → ∀ (H : Heap) (locs : List Loc) (ls : Array Slot), RS G K (ov I [(501, o, w1_i_p), (503, o, i_token), (504, o, w1_i_value), (505, o, i_many)]) (ov J [(506, o, w1_j_name)]) X A B Q H → va_S (gA G) s.heap H locs → lv_has ls 3 [(0, .ref o), (1, .int p1), (2, .int w1_2)] → W p l e ({ frames := 2, cells := 0, slots := 0, locals := 43 } : Room) s m args below meth c H locs 0 0 Z (F0 m 34 ls []) := by
    intro _ hf H locs ls hR hS hl
    unfold f6_runY_j34 at hf
    refine lv_iload_n hx hb dX6_run_34 rfl (lv_at hl 2 rfl) ?_
    have hj55 : ∀ (j55_s0 : Int32), f6_runY_j55 i_h_size i_at a_h_tape w1_i_p w1_i_value w1_j_name j55_s0 = some o1 → ∀ (H : Heap) (locs : List Loc) (ls : Array Slot), RS G K (ov I [(501, o, w1_i_p), (503, o, i_token), (504, o, w1_i_value), (505, o, i_many)]) (ov J [(506, o, w1_j_name)]) X A B Q H → va_S (gA G) s.heap H locs → lv_has ls 3 [(0, .ref o), (1, .int p1)] → W p l e ({ frames := 2, cells := 0, slots := 0, locals := 43 } : Room) s m args below meth c H locs 0 0 Z (F0 m 55 ls [.int j55_s0]) := by
      intro j55_s0 hf H locs ls hR hS hl
      unfold f6_runY_j55 at hf
      refine lv_istore_n (lv' := [(2, .int j55_s0), (0, .ref o), (1, .int p1)]) hx hb dX6_run_55 rfl hl (by decide) rfl (fun ls hl => ?_)
      refine lv_aload_n hx hb dX6_run_56 rfl (lv_at hl 1 rfl) ?_
      refine n_geti (v := w1_i_p) hx hb hts hown hG hR gFi_X6_19_5 sh_o.1 (ov_get 0 rfl rfl) dX6_run_57 ?_
      refine lv_aload_n hx hb dX6_run_60 rfl (lv_at hl 1 rfl) ?_
      refine n_geti (v := i_at) hx hb hts hown hG hR gFi_X6_40_5 sh_o.1 ((congrFun (ov_no rfl) _).trans e_i_at) dX6_run_61 ?_
      obtain ⟨v9, ev9, hf⟩ := lt_some hf
      refine n_isub hx hb ev9 dX6_run_64 ?_
      refine lv_bipush (v := 6) hx hb dX6_run_65 lb_6 ?_
      have hj87 : ∀ (j87_j_name : Int64), f6_runY_j87 i_h_size i_at a_h_tape w1_i_p w1_i_value j55_s0 j87_j_name = some o1 → ∀ (H : Heap) (locs : List Loc) (ls : Array Slot), RS G K (ov I [(501, o, w1_i_p), (503, o, i_token), (504, o, w1_i_value), (505, o, i_many)]) (ov J [(506, o, j87_j_name)]) X A B Q H → va_S (gA G) s.heap H locs → lv_has ls 3 [(0, .ref o), (1, .int p1), (2, .int j55_s0)] → W p l e ({ frames := 2, cells := 0, slots := 0, locals := 43 } : Room) s m args below meth c H locs 0 0 Z (F0 m 87 ls []) := by
        intro j87_j_name hf H locs ls hR hS hl
        unfold f6_runY_j87 at hf
        refine lv_aload_n hx hb dX6_run_87 rfl (lv_at hl 0 rfl) ?_
        refine n_geti (v := w1_i_p) hx hb hts hown hG hR gFi_X6_19_5 sh_o.1 (ov_get 0 rfl rfl) dX6_run_88 ?_
        refine lv_aload_n hx hb dX6_run_91 rfl (lv_at hl 0 rfl) ?_
        refine n_geti (v := i_at) hx hb hts hown hG hR gFi_X6_40_5 sh_o.1 ((congrFun (ov_no rfl) _).trans e_i_at) dX6_run_92 ?_
        obtain ⟨v10, ev10, hf⟩ := lt_some hf
        refine n_isub hx hb ev10 dX6_run_95 ?_
        refine lv_bipush (v := 8) hx hb dX6_run_96 lb_8 ?_
        have hj120 : ∀ (j120_i_value : Int32), f6_runY_j120 w1_i_p j55_s0 j87_j_name j120_i_value = some o1 → ∀ (H : Heap) (locs : List Loc) (ls : Array Slot), RS G K (ov I [(501, o, w1_i_p), (503, o, i_token), (504, o, j120_i_value), (505, o, i_many)]) (ov J [(506, o, j87_j_name)]) X A B Q H → va_S (gA G) s.heap H locs → lv_has ls 3 [(0, .ref o), (1, .int p1), (2, .int j55_s0)] → W p l e ({ frames := 2, cells := 0, slots := 0, locals := 43 } : Room) s m args below meth c H locs 0 0 Z (F0 m 120 ls []) := by
          intro j120_i_value hf H locs ls hR hS hl
          unfold f6_runY_j120 at hf
          refine lv_aload_n hx hb dX6_run_120 rfl (lv_at hl 0 rfl) ?_
          refine lv_dup hx hb dX6_run_121 rfl ?_
          refine n_geti (v := w1_i_p) hx hb hts hown hG hR gFi_X6_19_5 sh_o.1 (ov_get 0 rfl rfl) dX6_run_122 ?_
          refine lv_iconst (v := 1) hx hb dX6_run_125 li_1 ?_
          obtain ⟨v11, ev11, hf⟩ := lt_some hf
          refine n_iadd hx hb ev11 dX6_run_126 ?_
          refine n_puti (li' := [(501, o, v11), (503, o, i_token), (504, o, j120_i_value), (505, o, i_many)]) hx hb hts hown hG hR hS gPi_X6_19_5 sh_o.1 0 rfl rfl rfl dX6_run_127 (fun H locs hR hS => ?_)
          refine lv_goto (tgt := 12) hx hb dX6_run_130 (by decide) ?_
          obtain rfl := some_i hf
          exact hk1 _ _ _ hR hS (lv_sub hl [0, 1, 2] rfl)
        refine lv_icmp_ge (tgt := 120) hx hb dX6_run_98 (by decide) (fun c12 => ?_) (fun c12 => ?_)
        · have hf := ite_t c12 hf
          exact hj120 w1_i_value hf _ _ _ hR hS (lv_sub hl [0, 1, 2] rfl)
        · have hf := ite_f c12 hf
          refine lv_aload_n hx hb dX6_run_101 rfl (lv_at hl 0 rfl) ?_
          refine lv_bipush (v := 10) hx hb dX6_run_102 lb_10 ?_
          refine lv_aload_n hx hb dX6_run_104 rfl (lv_at hl 0 rfl) ?_
          refine n_geti (v := w1_i_value) hx hb hts hown hG hR gFi_X6_57_5 sh_o.1 (ov_get 2 rfl rfl) dX6_run_105 ?_
          obtain ⟨v13, ev13, hf⟩ := lt_some hf
          refine n_imul hx hb ev13 dX6_run_108 ?_
          refine lv_aload_n hx hb dX6_run_109 rfl (lv_at hl 0 rfl) ?_
          obtain ⟨rr14, hrr14, hf⟩ := bind_s hf
          refine g0_cV (rm := (0, 0)) (As := []) (rest := [.int v13, .ref o]) ⟨hx, hb, hml, hown, hts⟩ hG hR hS (m6_peekY l G K (ov I [(501, o, w1_i_p), (503, o, i_token), (504, o, w1_i_value), (505, o, i_many)]) (ov J [(506, o, j87_j_name)]) X A B Q o h sh_o sh_h x_o_thisR i_h_size w1_i_p a_h_tape ((congrFun (ov_no rfl) _).trans e_i_h_size) (ov_get 0 rfl rfl) e_a_h_tape rr14 hrr14) ⟨callB_of 0 hts (lw_meth q855) rfl rfl rfl (hts _ q110) (hts _ q852) (by decide +kernel) ⟨Nat.le_of_ble_eq_true rfl, Nat.le_of_ble_eq_true rfl⟩, hts _ q854, x_selP (by decide +kernel) (hG.1.1 5 _ rfl).2.1 (va_Nw.use rfl (hG.2 _ q853 rfl)) (hts _ q854) (hts _ q847)⟩ sh_o.1 rfl rfl hl.1 (Nat.le_of_ble_eq_true rfl) dX6_run_110 ⟨Nat.le_refl _, Nat.le_refl _⟩ rfl (fun H locs hR hS => ?_)
          obtain ⟨v15, ev15, hf⟩ := lt_some hf
          refine n_iadd hx hb ev15 dX6_run_113 ?_
          refine lv_bipush (v := 48) hx hb dX6_run_114 lb_48 ?_
          obtain ⟨v16, ev16, hf⟩ := lt_some hf
          refine n_isub hx hb ev16 dX6_run_116 ?_
          refine n_puti (li' := [(501, o, w1_i_p), (503, o, i_token), (504, o, v16), (505, o, i_many)]) hx hb hts hown hG hR hS gPi_X6_57_5 sh_o.1 2 rfl rfl rfl dX6_run_117 (fun H locs hR hS => ?_)
          exact hj120 v16 hf _ _ _ hR hS (lv_sub hl [0, 1, 2] rfl)
      refine lv_icmp_ge (tgt := 87) hx hb dX6_run_67 (by decide) (fun c17 => ?_) (fun c17 => ?_)
      · have hf := ite_t c17 hf
        exact hj87 w1_j_name hf _ _ _ hR hS (lv_sub hl [1, 2, 0] rfl)
      · have hf := ite_f c17 hf
        refine lv_aload_n hx hb dX6_run_70 rfl (lv_at hl 1 rfl) ?_
        refine lv_aload_n hx hb dX6_run_71 rfl (lv_at hl 1 rfl) ?_
        refine n_getj (v := w1_j_name) hx hb hts hown hG hR gFj_X6_60_5 sh_o.1 (ov_get 0 rfl rfl) dX6_run_72 ?_
        refine lv_bipush (v := 8) hx hb dX6_run_75 lb_8 ?_
        obtain ⟨v18, ev18, hf⟩ := lt_some hf
        refine n_lshl hx hb ev18 dX6_run_77 ?_
        refine lv_aload_n hx hb dX6_run_78 rfl (lv_at hl 1 rfl) ?_
        obtain ⟨rr19, hrr19, hf⟩ := bind_s hf
        refine g0_cV (rm := (0, 0)) (As := []) (rest := [.long v18, .ref o]) ⟨hx, hb, hml, hown, hts⟩ hG hR hS (m6_peekY l G K (ov I [(501, o, w1_i_p), (503, o, i_token), (504, o, w1_i_value), (505, o, i_many)]) (ov J [(506, o, w1_j_name)]) X A B Q o h sh_o sh_h x_o_thisR i_h_size w1_i_p a_h_tape ((congrFun (ov_no rfl) _).trans e_i_h_size) (ov_get 0 rfl rfl) e_a_h_tape rr19 hrr19) ⟨callB_of 0 hts (lw_meth q855) rfl rfl rfl (hts _ q110) (hts _ q852) (by decide +kernel) ⟨Nat.le_of_ble_eq_true rfl, Nat.le_of_ble_eq_true rfl⟩, hts _ q854, x_selP (by decide +kernel) (hG.1.1 5 _ rfl).2.1 (va_Nw.use rfl (hG.2 _ q853 rfl)) (hts _ q854) (hts _ q847)⟩ sh_o.1 rfl rfl hl.1 (Nat.le_of_ble_eq_true rfl) dX6_run_79 ⟨Nat.le_refl _, Nat.le_refl _⟩ rfl (fun H locs hR hS => ?_)
        obtain ⟨v20, ev20, hf⟩ := lt_some hf
        refine n_i2l hx hb ev20 dX6_run_82 ?_
        obtain ⟨v21, ev21, hf⟩ := lt_some hf
        refine n_lor hx hb ev21 dX6_run_83 ?_
        refine n_putj (li' := [(506, o, v21)]) hx hb hts hown hG hR hS gPj_X6_60_5 sh_o.1 0 rfl rfl rfl dX6_run_84 (fun H locs hR hS => ?_)
        exact hj87 v21 hf _ _ _ hR hS (lv_sub hl [1, 2, 0] rfl)
    have hj54 : ∀ (_ : Unit), f6_runY_j54 i_h_size i_at a_h_tape w1_i_p w1_i_value w1_j_name = some o1 → ∀ (H : Heap) (locs : List Loc) (ls : Array Slot), RS G K (ov I [(501, o, w1_i_p), (503, o, i_token), (504, o, w1_i_value), (505, o, i_many)]) (ov J [(506, o, w1_j_name)]) X A B Q H → va_S (gA G) s.heap H locs → lv_has ls 3 [(0, .ref o), (1, .int p1)] → W p l e ({ frames := 2, cells := 0, slots := 0, locals := 43 } : Room) s m args below meth c H locs 0 0 Z (F0 m 54 ls []) := by
      intro _ hf H locs ls hR hS hl
      unfold f6_runY_j54 at hf
      refine lv_iconst (v := 0) hx hb dX6_run_54 li_0 ?_
      exact hj55 (0 : Int32) hf _ _ _ hR hS (lv_sub hl [0, 1] rfl)
    refine lv_if_eq (tgt := 54) hx hb dX6_run_35 (by decide) (fun c22 => ?_) (fun c22 => ?_)
    · have hf := ite_t c22 hf
      exact hj54 () hf _ _ _ hR hS (lv_sub hl [0, 1] rfl)
    · have hf := ite_f c22 hf
      refine lv_aload_n hx hb dX6_run_38 rfl (lv_at hl 0 rfl) ?_
      refine lv_aload_n hx hb dX6_run_39 rfl (lv_at hl 0 rfl) ?_
      obtain ⟨rr23, hrr23, hf⟩ := bind_s hf
      refine g0_cV (rm := (0, 0)) (As := []) (rest := [.ref o]) ⟨hx, hb, hml, hown, hts⟩ hG hR hS (m6_peekY l G K (ov I [(501, o, w1_i_p), (503, o, i_token), (504, o, w1_i_value), (505, o, i_many)]) (ov J [(506, o, w1_j_name)]) X A B Q o h sh_o sh_h x_o_thisR i_h_size w1_i_p a_h_tape ((congrFun (ov_no rfl) _).trans e_i_h_size) (ov_get 0 rfl rfl) e_a_h_tape rr23 hrr23) ⟨callB_of 0 hts (lw_meth q855) rfl rfl rfl (hts _ q110) (hts _ q852) (by decide +kernel) ⟨Nat.le_of_ble_eq_true rfl, Nat.le_of_ble_eq_true rfl⟩, hts _ q854, x_selP (by decide +kernel) (hG.1.1 5 _ rfl).2.1 (va_Nw.use rfl (hG.2 _ q853 rfl)) (hts _ q854) (hts _ q847)⟩ sh_o.1 rfl rfl hl.1 (Nat.le_of_ble_eq_true rfl) dX6_run_40 ⟨Nat.le_refl _, Nat.le_refl _⟩ rfl (fun H locs hR hS => ?_)
      obtain ⟨rr24, hrr24, hf⟩ := bind_s hf
      refine g0_cV (rm := (1, 22)) (As := [.int rr23]) (rest := []) ⟨hx, hb, hml, hown, hts⟩ hG hR hS (m6_isLetterY l G K (ov I [(501, o, w1_i_p), (503, o, i_token), (504, o, w1_i_value), (505, o, i_many)]) (ov J [(506, o, w1_j_name)]) X A B Q o h sh_o sh_h x_o_thisR rr23 rr24 hrr24) ⟨callB_of 1 hts (lw_meth q859) rfl rfl rfl (hts _ q110) (hts _ q856) (by decide +kernel) ⟨Nat.le_of_ble_eq_true rfl, Nat.le_of_ble_eq_true rfl⟩, hts _ q858, x_selP (by decide +kernel) (hG.1.1 5 _ rfl).2.1 (va_Nw.use rfl (hG.2 _ q857 rfl)) (hts _ q858) (hts _ q847)⟩ sh_o.1 rfl rfl hl.1 (Nat.le_of_ble_eq_true rfl) dX6_run_43 ⟨Nat.le_refl _, Nat.le_refl _⟩ rfl (fun H locs hR hS => ?_)
      refine lv_iload_n hx hb dX6_run_46 rfl (lv_at hl 1 rfl) ?_
      refine lv_icmp_ne (tgt := 54) hx hb dX6_run_47 (by decide) (fun c25 => ?_) (fun c25 => ?_)
      · have hf := ite_f c25 hf
        exact hj54 () hf _ _ _ hR hS (lv_sub hl [0, 1] rfl)
      · have hf := ite_t c25 hf
        refine lv_iconst (v := 1) hx hb dX6_run_50 li_1 ?_
        refine lv_goto (tgt := 55) hx hb dX6_run_51 (by decide) ?_
        exact hj55 (1 : Int32) hf _ _ _ hR hS (lv_sub hl [0, 1] rfl)
  refine lv_if_ne (tgt := 34) hx hb dX6_run_20 (by decide) (fun c26 => ?_) (fun c26 => ?_)
  · have hf := ite_f c26 hf
    exact hj34 () hf _ _ _ hR hS (lv_sub hl [0, 1, 2] rfl)
  · have hf := ite_t c26 hf
    refine lv_aload_n hx hb dX6_run_23 rfl (lv_at hl 0 rfl) ?_
    refine lv_aload_n hx hb dX6_run_24 rfl (lv_at hl 0 rfl) ?_
    obtain ⟨rr27, hrr27, hf⟩ := bind_s hf
    refine g0_cV (rm := (0, 0)) (As := []) (rest := [.ref o]) ⟨hx, hb, hml, hown, hts⟩ hG hR hS (m6_peekY l G K (ov I [(501, o, w1_i_p), (503, o, i_token), (504, o, w1_i_value), (505, o, i_many)]) (ov J [(506, o, w1_j_name)]) X A B Q o h sh_o sh_h x_o_thisR i_h_size w1_i_p a_h_tape ((congrFun (ov_no rfl) _).trans e_i_h_size) (ov_get 0 rfl rfl) e_a_h_tape rr27 hrr27) ⟨callB_of 0 hts (lw_meth q855) rfl rfl rfl (hts _ q110) (hts _ q852) (by decide +kernel) ⟨Nat.le_of_ble_eq_true rfl, Nat.le_of_ble_eq_true rfl⟩, hts _ q854, x_selP (by decide +kernel) (hG.1.1 5 _ rfl).2.1 (va_Nw.use rfl (hG.2 _ q853 rfl)) (hts _ q854) (hts _ q847)⟩ sh_o.1 rfl rfl hl.1 (Nat.le_of_ble_eq_true rfl) dX6_run_25 ⟨Nat.le_refl _, Nat.le_refl _⟩ rfl (fun H locs hR hS => ?_)
    obtain ⟨rr28, hrr28, hf⟩ := bind_s hf
    refine g0_cV (rm := (1, 22)) (As := [.int rr27]) (rest := []) ⟨hx, hb, hml, hown, hts⟩ hG hR hS (m6_isDigitY l G K (ov I [(501, o, w1_i_p), (503, o, i_token), (504, o, w1_i_value), (505, o, i_many)]) (ov J [(506, o, w1_j_name)]) X A B Q o h sh_o sh_h x_o_thisR rr27 rr28 hrr28) ⟨callB_of 1 hts (lw_meth q866) rfl rfl rfl (hts _ q110) (hts _ q863) (by decide +kernel) ⟨Nat.le_of_ble_eq_true rfl, Nat.le_of_ble_eq_true rfl⟩, hts _ q865, x_selP (by decide +kernel) (hG.1.1 5 _ rfl).2.1 (va_Nw.use rfl (hG.2 _ q864 rfl)) (hts _ q865) (hts _ q847)⟩ sh_o.1 rfl rfl hl.1 (Nat.le_of_ble_eq_true rfl) dX6_run_28 ⟨Nat.le_refl _, Nat.le_refl _⟩ rfl (fun H locs hR hS => ?_)
    refine lv_if_eq (tgt := 133) hx hb dX6_run_31 (by decide) (fun c29 => ?_) (fun c29 => ?_)
    · have hf := ite_t c29 hf
      obtain rfl := some_i hf
      replace hk1 : _ = rl1 := hk1
      subst hk1
      exact hx1_0 (w1_2, w1_i_p, w1_i_value, w1_j_name) hfo1 _ _ _ hR hS (lv_sub hl [0, 1, 2] rfl)
    · have hf := ite_f c29 hf
      exact hj34 () hf _ _ _ hR hS (lv_sub hl [0, 1, 2] rfl)
noncomputable def f6_nextY_j111 (i_h_size : Int32) (i_many : Int32) (j_name : Int64) (a_h_tape : Nat → Int32) (j78_i_at : Int32) (rr2 : Int32) (j111_i_p : Int32) (j111_i_token : Int32) (j111_i_value : Int32) : Option (Int32 × Int32 × Int32 × Int32 × Int32 × Int64) :=
  (f6_isLetterY rr2).bind fun rr5 =>
  (f6_runY rr5 i_h_size j111_i_p j78_i_at j111_i_token j111_i_value i_many j_name a_h_tape).bind fun rr6 =>
  some (rr6.1, j78_i_at, rr6.2.1, rr6.2.2.1, rr6.2.2.2.1, rr6.2.2.2.2)

noncomputable def f6_nextY_j158 (i_many : Int32) (j_name : Int64) (x1_0 : Int32) (j78_i_at : Int32) (rr2 : Int32) (j158_s0 : Int32) : Option (Int32 × Int32 × Int32 × Int32 × Int32 × Int64) :=
  lt (x1_0 + (1 : Int32)) fun v10 =>
  some (v10, j78_i_at, j158_s0, rr2, i_many, j_name)

noncomputable def f6_nextY_j153 (i_many : Int32) (j_name : Int64) (x1_0 : Int32) (j78_i_at : Int32) (rr2 : Int32) : Option (Int32 × Int32 × Int32 × Int32 × Int32 × Int64) :=
  f6_nextY_j158 i_many j_name x1_0 j78_i_at rr2 (3 : Int32)

noncomputable def f6_nextY_j78 (i_h_size : Int32) (i_value : Int32) (i_many : Int32) (j_name : Int64) (a_h_tape : Nat → Int32) (x1_0 : Int32) (j78_i_at : Int32) (j78_i_token : Int32) : Option (Int32 × Int32 × Int32 × Int32 × Int32 × Int64) :=
  (f6_peekY i_h_size x1_0 a_h_tape).bind fun rr2 =>
  if 0 ≤ rr2 then
    (f6_isLetterY rr2).bind fun rr4 =>
    if rr4 = 0 then
      (f6_isDigitY rr2).bind fun rr8 =>
      if rr8 = 0 then
        if rr2 = (59 : Int32) then
          f6_nextY_j153 i_many j_name x1_0 j78_i_at rr2
        else
          if rr2 = (40 : Int32) then
            f6_nextY_j153 i_many j_name x1_0 j78_i_at rr2
          else
            if rr2 = (41 : Int32) then
              f6_nextY_j153 i_many j_name x1_0 j78_i_at rr2
            else
              (f1_isIn rr2 (60 : Int32) (62 : Int32)).bind fun rr14 =>
              if rr14 = 0 then
                f6_nextY_j158 i_many j_name x1_0 j78_i_at rr2 (4 : Int32)
              else
                f6_nextY_j153 i_many j_name x1_0 j78_i_at rr2
      else
        f6_nextY_j111 i_h_size i_many j_name a_h_tape j78_i_at rr2 x1_0 j78_i_token i_value
    else
      f6_nextY_j111 i_h_size i_many j_name a_h_tape j78_i_at rr2 x1_0 j78_i_token i_value
  else
    some (x1_0, j78_i_at, (0 : Int32), i_value, i_many, j_name)

noncomputable def f6_nextY_e1_0 (i_h_size : Int32) (i_most : Int32) (i_token : Int32) (i_value : Int32) (i_many : Int32) (j_name : Int64) (a_h_tape : Nat → Int32) (x1_0 : Int32) : Option (Int32 × Int32 × Int32 × Int32 × Int32 × Int64) :=
  if i_h_size ≤ i_most then
    f6_nextY_j78 i_h_size i_value i_many j_name a_h_tape x1_0 x1_0 i_token
  else
    if x1_0 < i_most then
      f6_nextY_j78 i_h_size i_value i_many j_name a_h_tape x1_0 x1_0 i_token
    else
      some (x1_0, i_most, (4 : Int32), i_value, i_many, j_name)

noncomputable def f6_nextY_j18 (w1_i_p : Int32) : Option ((Int32) ⊕ (Int32)) :=
  lt (w1_i_p + (1 : Int32)) fun v19 =>
  some (.inl v19)

noncomputable def f6_nextY_s1 (i_h_size : Int32) (a_h_tape : Nat → Int32) (w1_i_p : Int32) : Option ((Int32) ⊕ (Int32)) :=
  (f6_peekY i_h_size w1_i_p a_h_tape).bind fun rr18 =>
  if rr18 = (32 : Int32) then
    f6_nextY_j18 w1_i_p
  else
    (f6_peekY i_h_size w1_i_p a_h_tape).bind fun rr21 =>
    if rr21 = (10 : Int32) then
      f6_nextY_j18 w1_i_p
    else
      some (.inr w1_i_p)

noncomputable def f6_nextY (i_h_size : Int32) (i_most : Int32) (i_p : Int32) (i_at : Int32) (i_token : Int32) (i_value : Int32) (i_many : Int32) (j_name : Int64) (a_h_tape : Nat → Int32) : Option (Int32 × Int32 × Int32 × Int32 × Int32 × Int64) :=
  (whl (fun (s1 : Int32) => f6_nextY_s1 i_h_size a_h_tape s1) FU i_p).bind fun rl1 =>
  f6_nextY_e1_0 i_h_size i_most i_token i_value i_many j_name a_h_tape rl1
set_option maxHeartbeats 4000000 in
theorem m6_nextY (l : Launch) (G : gG) (K : gK) (I : gI) (J : gJ) (X : gX) (A : gI) (B : gJ) (Q : gX) (o : Nat) (h : Nat) (sh_o : Sh K X o 5 rows5) (sh_h : Sh K X h 0 rows0) (x_o_thisR : X 507 o = some h)  (i_h_size : Int32) (i_most : Int32) (i_p : Int32) (i_at : Int32) (i_token : Int32) (i_value : Int32) (i_many : Int32) (j_name : Int64) (a_h_tape : Nat → Int32) (e_i_h_size : I 2 h = i_h_size) (e_i_most : I 500 o = i_most) (e_i_p : I 501 o = i_p) (e_i_at : I 502 o = i_at) (e_i_token : I 503 o = i_token) (e_i_value : I 504 o = i_value) (e_i_many : I 505 o = i_many) (e_j_name : J 506 o = j_name) (e_a_h_tape : A (h + 1) = a_h_tape) (out : Int32 × Int32 × Int32 × Int32 × Int32 × Int64) (hf : f6_nextY i_h_size i_most i_p i_at i_token i_value i_many j_name a_h_tape = some out) : GMet l yX6_next cX6_next 2 none (3) (65) G [.ref o] K I J X A B Q none K (ov I [(501, o, out.1), (502, o, out.2.1), (503, o, out.2.2.1), (504, o, out.2.2.2.1), (505, o, out.2.2.2.2.1)]) (ov J [(506, o, out.2.2.2.2.2)]) X A B Q 0 0 := by
  refine GMet.of (y := yX6_next) rfl (Nat.le_of_ble_eq_true rfl) rfl ?_
  intro p e s m below meth c ls hx hb hr hml hlocks hts hown hname hG hR hl
  have hown : s.vm.findClass RX6 = some m.cls := hown
  have k_a_h_tape : K (h + 1) = some (.inr (2, 740)) := (sh_h.2 0 _ rfl).1
  have hR : RS G K (ov I [(501, o, i_p), (502, o, i_at), (503, o, i_token), (504, o, i_value), (505, o, i_many)]) (ov J [(506, o, j_name)]) X A B Q s.heap := hR.to (Eq.symm (ov_sc e_i_p (ov_sc e_i_at (ov_sc e_i_token (ov_sc e_i_value (ov_sc e_i_many rfl)))))) (Eq.symm (ov_sc e_j_name rfl)) rfl rfl rfl rfl
  have hS : va_S (gA G) s.heap s.heap [] := va_S.rf
  have hend : ∀ (pc : Nat) (H : Heap) (locs : List Loc) (ls : Array Slot), decode cX6_next pc = .ok (.return_, 1) → RS G K (ov I [(501, o, out.1), (502, o, out.2.1), (503, o, out.2.2.1), (504, o, out.2.2.2.1), (505, o, out.2.2.2.2.1)]) (ov J [(506, o, out.2.2.2.2.2)]) X A B Q H → va_S (gA G) s.heap H locs → W p l e ({ frames := 3, cells := 0, slots := 0, locals := 65 } : Room) s m ([.ref o] : List Value).toArray below meth c H locs 0 0 (MQ below (gQ G none K (ov I [(501, o, out.1), (502, o, out.2.1), (503, o, out.2.2.1), (504, o, out.2.2.2.1), (505, o, out.2.2.2.2.1)]) (ov J [(506, o, out.2.2.2.2.2)]) X A B Q) ([.ref o] : List Value).toArray s 0 0 (gA G)) (F0 m pc ls []) := fun pc H locs ls hd hR hS => g_vret hx hb hr hlocks hG hR hS rfl hd
  generalize MQ below (gQ G none K (ov I [(501, o, out.1), (502, o, out.2.1), (503, o, out.2.2.1), (504, o, out.2.2.2.1), (505, o, out.2.2.2.2.1)]) (ov J [(506, o, out.2.2.2.2.2)]) X A B Q) ([.ref o] : List Value).toArray s 0 0 (gA G) = Z at hend ⊢
  generalize ([.ref o] : List Value).toArray = args at hts hend ⊢
  unfold f6_nextY at hf
  obtain ⟨rl1, hw1, hfo1⟩ := bind_s hf
  have hx1_0 : ∀ (x1_0 : Int32), f6_nextY_e1_0 i_h_size i_most i_token i_value i_many j_name a_h_tape x1_0 = some out → ∀ (H : Heap) (locs : List Loc) (ls : Array Slot), RS G K (ov I [(501, o, x1_0), (502, o, i_at), (503, o, i_token), (504, o, i_value), (505, o, i_many)]) (ov J [(506, o, j_name)]) X A B Q H → va_S (gA G) s.heap H locs → lv_has ls 2 [(0, .ref o)] → W p l e ({ frames := 3, cells := 0, slots := 0, locals := 65 } : Room) s m args below meth c H locs 0 0 Z (F0 m 31 ls []) := by
    intro x1_0 hf H locs ls hR hS hl
    unfold f6_nextY_e1_0 at hf
    refine lv_aload_n hx hb dX6_next_31 rfl (lv_at hl 0 rfl) ?_
    refine lv_aload_n hx hb dX6_next_32 rfl (lv_at hl 0 rfl) ?_
    refine n_geti (v := x1_0) hx hb hts hown hG hR gFi_X6_19_5 sh_o.1 (ov_get 0 rfl rfl) dX6_next_33 ?_
    refine n_puti (li' := [(501, o, x1_0), (502, o, x1_0), (503, o, i_token), (504, o, i_value), (505, o, i_many)]) hx hb hts hown hG hR hS gPi_X6_40_5 sh_o.1 1 rfl rfl rfl dX6_next_36 (fun H locs hR hS => ?_)
    refine lv_aload_n hx hb dX6_next_39 rfl (lv_at hl 0 rfl) ?_
    refine g_getr (b := h) hx hb hts hown hG hR gFx_X6_3_5 sh_o.1 x_o_thisR dX6_next_40 ?_
    refine n_geti (v := i_h_size) hx hb hts hown hG hR gFi_X6_25_0 sh_h.1 ((congrFun (ov_no rfl) _).trans e_i_h_size) dX6_next_43 ?_
    refine lv_aload_n hx hb dX6_next_46 rfl (lv_at hl 0 rfl) ?_
    refine n_geti (v := i_most) hx hb hts hown hG hR gFi_X6_15_5 sh_o.1 ((congrFun (ov_no rfl) _).trans e_i_most) dX6_next_47 ?_
    have hj78 : ∀ (j78_i_at : Int32) (j78_i_token : Int32), f6_nextY_j78 i_h_size i_value i_many j_name a_h_tape x1_0 j78_i_at j78_i_token = some out → ∀ (H : Heap) (locs : List Loc) (ls : Array Slot), RS G K (ov I [(501, o, x1_0), (502, o, j78_i_at), (503, o, j78_i_token), (504, o, i_value), (505, o, i_many)]) (ov J [(506, o, j_name)]) X A B Q H → va_S (gA G) s.heap H locs → lv_has ls 2 [(0, .ref o)] → W p l e ({ frames := 3, cells := 0, slots := 0, locals := 65 } : Room) s m args below meth c H locs 0 0 Z (F0 m 78 ls []) := by
      intro j78_i_at j78_i_token hf H locs ls hR hS hl
      unfold f6_nextY_j78 at hf
      refine lv_aload_n hx hb dX6_next_78 rfl (lv_at hl 0 rfl) ?_
      obtain ⟨rr2, hrr2, hf⟩ := bind_s hf
      refine g0_cV (rm := (0, 0)) (As := []) (rest := []) ⟨hx, hb, hml, hown, hts⟩ hG hR hS (m6_peekY l G K (ov I [(501, o, x1_0), (502, o, j78_i_at), (503, o, j78_i_token), (504, o, i_value), (505, o, i_many)]) (ov J [(506, o, j_name)]) X A B Q o h sh_o sh_h x_o_thisR i_h_size x1_0 a_h_tape ((congrFun (ov_no rfl) _).trans e_i_h_size) (ov_get 0 rfl rfl) e_a_h_tape rr2 hrr2) ⟨callB_of 0 hts (lw_meth q855) rfl rfl rfl (hts _ q110) (hts _ q852) (by decide +kernel) ⟨Nat.le_of_ble_eq_true rfl, Nat.le_of_ble_eq_true rfl⟩, hts _ q854, x_selP (by decide +kernel) (hG.1.1 5 _ rfl).2.1 (va_Nw.use rfl (hG.2 _ q853 rfl)) (hts _ q854) (hts _ q847)⟩ sh_o.1 rfl rfl hl.1 (Nat.le_of_ble_eq_true rfl) dX6_next_79 ⟨Nat.le_refl _, Nat.le_refl _⟩ rfl (fun H locs hR hS => ?_)
      refine lv_istore_n (lv' := [(1, .int rr2), (0, .ref o)]) hx hb dX6_next_82 rfl hl (by decide) rfl (fun ls hl => ?_)
      refine lv_iload_n hx hb dX6_next_83 rfl (lv_at hl 0 rfl) ?_
      refine lv_if_ge (tgt := 95) hx hb dX6_next_84 (by decide) (fun c3 => ?_) (fun c3 => ?_)
      · have hf := ite_t c3 hf
        refine lv_aload_n hx hb dX6_next_95 rfl (lv_at hl 1 rfl) ?_
        refine lv_iload_n hx hb dX6_next_96 rfl (lv_at hl 0 rfl) ?_
        obtain ⟨rr4, hrr4, hf⟩ := bind_s hf
        refine g0_cV (rm := (1, 22)) (As := [.int rr2]) (rest := []) ⟨hx, hb, hml, hown, hts⟩ hG hR hS (m6_isLetterY l G K (ov I [(501, o, x1_0), (502, o, j78_i_at), (503, o, j78_i_token), (504, o, i_value), (505, o, i_many)]) (ov J [(506, o, j_name)]) X A B Q o h sh_o sh_h x_o_thisR rr2 rr4 hrr4) ⟨callB_of 1 hts (lw_meth q859) rfl rfl rfl (hts _ q110) (hts _ q856) (by decide +kernel) ⟨Nat.le_of_ble_eq_true rfl, Nat.le_of_ble_eq_true rfl⟩, hts _ q858, x_selP (by decide +kernel) (hG.1.1 5 _ rfl).2.1 (va_Nw.use rfl (hG.2 _ q857 rfl)) (hts _ q858) (hts _ q847)⟩ sh_o.1 rfl rfl hl.1 (Nat.le_of_ble_eq_true rfl) dX6_next_97 ⟨Nat.le_refl _, Nat.le_refl _⟩ rfl (fun H locs hR hS => ?_)
        have hj111 : ∀ (j111_i_p : Int32) (j111_i_token : Int32) (j111_i_value : Int32), f6_nextY_j111 i_h_size i_many j_name a_h_tape j78_i_at rr2 j111_i_p j111_i_token j111_i_value = some out → ∀ (H : Heap) (locs : List Loc) (ls : Array Slot), RS G K (ov I [(501, o, j111_i_p), (502, o, j78_i_at), (503, o, j111_i_token), (504, o, j111_i_value), (505, o, i_many)]) (ov J [(506, o, j_name)]) X A B Q H → va_S (gA G) s.heap H locs → lv_has ls 2 [(0, .ref o), (1, .int rr2)] → W p l e ({ frames := 3, cells := 0, slots := 0, locals := 65 } : Room) s m args below meth c H locs 0 0 Z (F0 m 111 ls []) := by
          intro j111_i_p j111_i_token j111_i_value hf H locs ls hR hS hl
          unfold f6_nextY_j111 at hf
          refine lv_aload_n hx hb dX6_next_111 rfl (lv_at hl 0 rfl) ?_
          refine lv_aload_n hx hb dX6_next_112 rfl (lv_at hl 0 rfl) ?_
          refine lv_iload_n hx hb dX6_next_113 rfl (lv_at hl 1 rfl) ?_
          obtain ⟨rr5, hrr5, hf⟩ := bind_s hf
          refine g0_cV (rm := (1, 22)) (As := [.int rr2]) (rest := [.ref o]) ⟨hx, hb, hml, hown, hts⟩ hG hR hS (m6_isLetterY l G K (ov I [(501, o, j111_i_p), (502, o, j78_i_at), (503, o, j111_i_token), (504, o, j111_i_value), (505, o, i_many)]) (ov J [(506, o, j_name)]) X A B Q o h sh_o sh_h x_o_thisR rr2 rr5 hrr5) ⟨callB_of 1 hts (lw_meth q859) rfl rfl rfl (hts _ q110) (hts _ q856) (by decide +kernel) ⟨Nat.le_of_ble_eq_true rfl, Nat.le_of_ble_eq_true rfl⟩, hts _ q858, x_selP (by decide +kernel) (hG.1.1 5 _ rfl).2.1 (va_Nw.use rfl (hG.2 _ q857 rfl)) (hts _ q858) (hts _ q847)⟩ sh_o.1 rfl rfl hl.1 (Nat.le_of_ble_eq_true rfl) dX6_next_114 ⟨Nat.le_refl _, Nat.le_refl _⟩ rfl (fun H locs hR hS => ?_)
          obtain ⟨rr6, hrr6, hf⟩ := bind_s hf
          refine g0_cVv (rm := (2, 43)) (As := [.int rr5]) (rest := []) ⟨hx, hb, hml, hown, hts⟩ hG hR hS (m6_runY l G K (ov I [(501, o, j111_i_p), (502, o, j78_i_at), (503, o, j111_i_token), (504, o, j111_i_value), (505, o, i_many)]) (ov J [(506, o, j_name)]) X A B Q o h sh_o sh_h x_o_thisR rr5 i_h_size j111_i_p j78_i_at j111_i_token j111_i_value i_many j_name a_h_tape ((congrFun (ov_no rfl) _).trans e_i_h_size) (ov_get 0 rfl rfl) (ov_get 1 rfl rfl) (ov_get 2 rfl rfl) (ov_get 3 rfl rfl) (ov_get 4 rfl rfl) (ov_get 0 rfl rfl) e_a_h_tape rr6 hrr6) ⟨callB_of 1 hts (lw_meth q870) rfl rfl rfl (hts _ q110) (hts _ q867) (by decide +kernel) ⟨Nat.le_of_ble_eq_true rfl, Nat.le_of_ble_eq_true rfl⟩, hts _ q869, x_selP (by decide +kernel) (hG.1.1 5 _ rfl).2.1 (va_Nw.use rfl (hG.2 _ q868 rfl)) (hts _ q869) (hts _ q847)⟩ sh_o.1 rfl rfl hl.1 (Nat.le_of_ble_eq_true rfl) dX6_next_117 ⟨Nat.le_refl _, Nat.le_refl _⟩ rfl (fun H locs hR hS => ?_)
          have hR : RS G K (ov I [(501, o, rr6.1), (502, o, j78_i_at), (503, o, rr6.2.1), (504, o, rr6.2.2.1), (505, o, rr6.2.2.2.1)]) (ov J [(506, o, rr6.2.2.2.2)]) X A B Q H := hR.to (ov_merge (l := [(501, o, j111_i_p), (502, o, j78_i_at), (503, o, j111_i_token), (504, o, j111_i_value), (505, o, i_many)]) rfl [0, 2, 3, 4] [(501, o, rr6.1), (503, o, rr6.2.1), (504, o, rr6.2.2.1), (505, o, rr6.2.2.2.1)] rfl rfl) (ov_merge (l := [(506, o, j_name)]) rfl [0] [(506, o, rr6.2.2.2.2)] rfl rfl) rfl rfl rfl rfl
          refine lv_goto (tgt := 176) hx hb dX6_next_120 (by decide) ?_
          obtain rfl := some_i hf
          exact hend _ _ _ _ dX6_next_176 hR hS
        refine lv_if_ne (tgt := 111) hx hb dX6_next_100 (by decide) (fun c7 => ?_) (fun c7 => ?_)
        · have hf := ite_f c7 hf
          exact hj111 x1_0 j78_i_token i_value hf _ _ _ hR hS (lv_sub hl [1, 0] rfl)
        · have hf := ite_t c7 hf
          refine lv_aload_n hx hb dX6_next_103 rfl (lv_at hl 1 rfl) ?_
          refine lv_iload_n hx hb dX6_next_104 rfl (lv_at hl 0 rfl) ?_
          obtain ⟨rr8, hrr8, hf⟩ := bind_s hf
          refine g0_cV (rm := (1, 22)) (As := [.int rr2]) (rest := []) ⟨hx, hb, hml, hown, hts⟩ hG hR hS (m6_isDigitY l G K (ov I [(501, o, x1_0), (502, o, j78_i_at), (503, o, j78_i_token), (504, o, i_value), (505, o, i_many)]) (ov J [(506, o, j_name)]) X A B Q o h sh_o sh_h x_o_thisR rr2 rr8 hrr8) ⟨callB_of 1 hts (lw_meth q866) rfl rfl rfl (hts _ q110) (hts _ q863) (by decide +kernel) ⟨Nat.le_of_ble_eq_true rfl, Nat.le_of_ble_eq_true rfl⟩, hts _ q865, x_selP (by decide +kernel) (hG.1.1 5 _ rfl).2.1 (va_Nw.use rfl (hG.2 _ q864 rfl)) (hts _ q865) (hts _ q847)⟩ sh_o.1 rfl rfl hl.1 (Nat.le_of_ble_eq_true rfl) dX6_next_105 ⟨Nat.le_refl _, Nat.le_refl _⟩ rfl (fun H locs hR hS => ?_)
          refine lv_if_eq (tgt := 123) hx hb dX6_next_108 (by decide) (fun c9 => ?_) (fun c9 => ?_)
          · have hf := ite_t c9 hf
            refine lv_aload_n hx hb dX6_next_123 rfl (lv_at hl 1 rfl) ?_
            refine lv_iload_n hx hb dX6_next_124 rfl (lv_at hl 0 rfl) ?_
            refine lv_bipush (v := 59) hx hb dX6_next_125 lb_59 ?_
            have hj158 : ∀ (j158_s0 : Int32), f6_nextY_j158 i_many j_name x1_0 j78_i_at rr2 j158_s0 = some out → ∀ (H : Heap) (locs : List Loc) (ls : Array Slot), RS G K (ov I [(501, o, x1_0), (502, o, j78_i_at), (503, o, j78_i_token), (504, o, i_value), (505, o, i_many)]) (ov J [(506, o, j_name)]) X A B Q H → va_S (gA G) s.heap H locs → lv_has ls 2 [(0, .ref o), (1, .int rr2)] → W p l e ({ frames := 3, cells := 0, slots := 0, locals := 65 } : Room) s m args below meth c H locs 0 0 Z (F0 m 158 ls [.int j158_s0, .ref o]) := by
              intro j158_s0 hf H locs ls hR hS hl
              unfold f6_nextY_j158 at hf
              refine n_puti (li' := [(501, o, x1_0), (502, o, j78_i_at), (503, o, j158_s0), (504, o, i_value), (505, o, i_many)]) hx hb hts hown hG hR hS gPi_X6_43_5 sh_o.1 2 rfl rfl rfl dX6_next_158 (fun H locs hR hS => ?_)
              refine lv_aload_n hx hb dX6_next_161 rfl (lv_at hl 0 rfl) ?_
              refine lv_iload_n hx hb dX6_next_162 rfl (lv_at hl 1 rfl) ?_
              refine n_puti (li' := [(501, o, x1_0), (502, o, j78_i_at), (503, o, j158_s0), (504, o, rr2), (505, o, i_many)]) hx hb hts hown hG hR hS gPi_X6_57_5 sh_o.1 3 rfl rfl rfl dX6_next_163 (fun H locs hR hS => ?_)
              refine lv_aload_n hx hb dX6_next_166 rfl (lv_at hl 0 rfl) ?_
              refine lv_dup hx hb dX6_next_167 rfl ?_
              refine n_geti (v := x1_0) hx hb hts hown hG hR gFi_X6_19_5 sh_o.1 (ov_get 0 rfl rfl) dX6_next_168 ?_
              refine lv_iconst (v := 1) hx hb dX6_next_171 li_1 ?_
              obtain ⟨v10, ev10, hf⟩ := lt_some hf
              refine n_iadd hx hb ev10 dX6_next_172 ?_
              refine n_puti (li' := [(501, o, v10), (502, o, j78_i_at), (503, o, j158_s0), (504, o, rr2), (505, o, i_many)]) hx hb hts hown hG hR hS gPi_X6_19_5 sh_o.1 0 rfl rfl rfl dX6_next_173 (fun H locs hR hS => ?_)
              obtain rfl := some_i hf
              exact hend _ _ _ _ dX6_next_176 hR hS
            have hj153 : ∀ (_ : Unit), f6_nextY_j153 i_many j_name x1_0 j78_i_at rr2 = some out → ∀ (H : Heap) (locs : List Loc) (ls : Array Slot), RS G K (ov I [(501, o, x1_0), (502, o, j78_i_at), (503, o, j78_i_token), (504, o, i_value), (505, o, i_many)]) (ov J [(506, o, j_name)]) X A B Q H → va_S (gA G) s.heap H locs → lv_has ls 2 [(0, .ref o), (1, .int rr2)] → W p l e ({ frames := 3, cells := 0, slots := 0, locals := 65 } : Room) s m args below meth c H locs 0 0 Z (F0 m 153 ls [.ref o]) := by
              intro _ hf H locs ls hR hS hl
              unfold f6_nextY_j153 at hf
              refine lv_iconst (v := 3) hx hb dX6_next_153 li_3 ?_
              refine lv_goto (tgt := 158) hx hb dX6_next_154 (by decide) ?_
              exact hj158 (3 : Int32) hf _ _ _ hR hS (lv_sub hl [0, 1] rfl)
            refine lv_icmp_eq (tgt := 153) hx hb dX6_next_127 (by decide) (fun c11 => ?_) (fun c11 => ?_)
            · have hf := ite_t c11 hf
              exact hj153 () hf _ _ _ hR hS (lv_sub hl [1, 0] rfl)
            · have hf := ite_f c11 hf
              refine lv_iload_n hx hb dX6_next_130 rfl (lv_at hl 0 rfl) ?_
              refine lv_bipush (v := 40) hx hb dX6_next_131 lb_40 ?_
              refine lv_icmp_eq (tgt := 153) hx hb dX6_next_133 (by decide) (fun c12 => ?_) (fun c12 => ?_)
              · have hf := ite_t c12 hf
                exact hj153 () hf _ _ _ hR hS (lv_sub hl [1, 0] rfl)
              · have hf := ite_f c12 hf
                refine lv_iload_n hx hb dX6_next_136 rfl (lv_at hl 0 rfl) ?_
                refine lv_bipush (v := 41) hx hb dX6_next_137 lb_41 ?_
                refine lv_icmp_eq (tgt := 153) hx hb dX6_next_139 (by decide) (fun c13 => ?_) (fun c13 => ?_)
                · have hf := ite_t c13 hf
                  exact hj153 () hf _ _ _ hR hS (lv_sub hl [1, 0] rfl)
                · have hf := ite_f c13 hf
                  refine lv_iload_n hx hb dX6_next_142 rfl (lv_at hl 0 rfl) ?_
                  refine lv_bipush (v := 60) hx hb dX6_next_143 lb_60 ?_
                  refine lv_bipush (v := 62) hx hb dX6_next_145 lb_62 ?_
                  obtain ⟨rr14, hrr14, hf⟩ := bind_s hf
                  refine g0_cSN (rm := (0, 0)) (As := [.int rr2, .int (60 : Int32), .int (62 : Int32)]) (rest := [.ref o]) ⟨hx, hb, hml, hown, hts⟩ hG hR hS (m1_isIn l G K (ov I [(501, o, x1_0), (502, o, j78_i_at), (503, o, j78_i_token), (504, o, i_value), (505, o, i_many)]) (ov J [(506, o, j_name)]) X A B Q rr2 (60 : Int32) (62 : Int32) rr14 hrr14) ⟨va_cnB 3 hts (lw_meth q862) rfl rfl rfl (hG.2 _ q860 rfl) (hts _ q103) hd_X1_isIn.2 ⟨Nat.le_of_ble_eq_true rfl, Nat.le_of_ble_eq_true rfl⟩, hts _ q861, trivial⟩ rfl hl.1 (Nat.le_of_ble_eq_true rfl) dX6_next_147 ⟨Nat.le_refl _, Nat.le_refl _⟩ rfl (fun H locs hR hS => ?_)
                  refine lv_if_eq (tgt := 157) hx hb dX6_next_150 (by decide) (fun c15 => ?_) (fun c15 => ?_)
                  · have hf := ite_t c15 hf
                    refine lv_iconst (v := 4) hx hb dX6_next_157 li_4 ?_
                    exact hj158 (4 : Int32) hf _ _ _ hR hS (lv_sub hl [1, 0] rfl)
                  · have hf := ite_f c15 hf
                    exact hj153 () hf _ _ _ hR hS (lv_sub hl [1, 0] rfl)
          · have hf := ite_f c9 hf
            exact hj111 x1_0 j78_i_token i_value hf _ _ _ hR hS (lv_sub hl [1, 0] rfl)
      · have hf := ite_f c3 hf
        refine lv_aload_n hx hb dX6_next_87 rfl (lv_at hl 1 rfl) ?_
        refine lv_iconst (v := 0) hx hb dX6_next_88 li_0 ?_
        refine n_puti (li' := [(501, o, x1_0), (502, o, j78_i_at), (503, o, (0 : Int32)), (504, o, i_value), (505, o, i_many)]) hx hb hts hown hG hR hS gPi_X6_43_5 sh_o.1 2 rfl rfl rfl dX6_next_89 (fun H locs hR hS => ?_)
        refine lv_goto (tgt := 176) hx hb dX6_next_92 (by decide) ?_
        obtain rfl := some_i hf
        exact hend _ _ _ _ dX6_next_176 hR hS
    refine lv_icmp_le (tgt := 78) hx hb dX6_next_50 (by decide) (fun c16 => ?_) (fun c16 => ?_)
    · have hf := ite_t c16 hf
      exact hj78 x1_0 i_token hf _ _ _ hR hS (lv_sub hl [0] rfl)
    · have hf := ite_f c16 hf
      refine lv_aload_n hx hb dX6_next_53 rfl (lv_at hl 0 rfl) ?_
      refine n_geti (v := x1_0) hx hb hts hown hG hR gFi_X6_19_5 sh_o.1 (ov_get 0 rfl rfl) dX6_next_54 ?_
      refine lv_aload_n hx hb dX6_next_57 rfl (lv_at hl 0 rfl) ?_
      refine n_geti (v := i_most) hx hb hts hown hG hR gFi_X6_15_5 sh_o.1 ((congrFun (ov_no rfl) _).trans e_i_most) dX6_next_58 ?_
      refine lv_icmp_lt (tgt := 78) hx hb dX6_next_61 (by decide) (fun c17 => ?_) (fun c17 => ?_)
      · have hf := ite_t c17 hf
        exact hj78 x1_0 i_token hf _ _ _ hR hS (lv_sub hl [0] rfl)
      · have hf := ite_f c17 hf
        refine lv_aload_n hx hb dX6_next_64 rfl (lv_at hl 0 rfl) ?_
        refine lv_aload_n hx hb dX6_next_65 rfl (lv_at hl 0 rfl) ?_
        refine n_geti (v := i_most) hx hb hts hown hG hR gFi_X6_15_5 sh_o.1 ((congrFun (ov_no rfl) _).trans e_i_most) dX6_next_66 ?_
        refine n_puti (li' := [(501, o, x1_0), (502, o, i_most), (503, o, i_token), (504, o, i_value), (505, o, i_many)]) hx hb hts hown hG hR hS gPi_X6_40_5 sh_o.1 1 rfl rfl rfl dX6_next_69 (fun H locs hR hS => ?_)
        refine lv_aload_n hx hb dX6_next_72 rfl (lv_at hl 0 rfl) ?_
        refine lv_iconst (v := 4) hx hb dX6_next_73 li_4 ?_
        refine n_puti (li' := [(501, o, x1_0), (502, o, i_most), (503, o, (4 : Int32)), (504, o, i_value), (505, o, i_many)]) hx hb hts hown hG hR hS gPi_X6_43_5 sh_o.1 2 rfl rfl rfl dX6_next_74 (fun H locs hR hS => ?_)
        obtain rfl := some_i hf
        exact hend _ _ _ _ dX6_next_77 hR hS
  refine whl_walk (P := fun (s1 : Int32) => ∀ (H : Heap) (locs : List Loc) (ls : Array Slot), RS G K (ov I [(501, o, s1), (502, o, i_at), (503, o, i_token), (504, o, i_value), (505, o, i_many)]) (ov J [(506, o, j_name)]) X A B Q H → va_S (gA G) s.heap H locs → lv_has ls 2 [(0, .ref o)] → W p l e ({ frames := 3, cells := 0, slots := 0, locals := 65 } : Room) s m args below meth c H locs 0 0 Z (F0 m 0 ls [])) (r := rl1) ?_ FU _ hw1 _ _ _ hR hS (lv_sub hl [0] rfl)
  clear hR hS hl hf
  intro s1 o1 hf hk1 H locs ls hR hS hl
  obtain ⟨w1_i_p, rfl⟩ : ∃ z, z = s1 := ⟨_, rfl⟩
  have hf : f6_nextY_s1 i_h_size a_h_tape w1_i_p = some o1 := hf
  have hR : RS G K (ov I [(501, o, w1_i_p), (502, o, i_at), (503, o, i_token), (504, o, i_value), (505, o, i_many)]) (ov J [(506, o, j_name)]) X A B Q H := hR
  have hl : lv_has ls 2 [(0, .ref o)] := hl
  unfold f6_nextY_s1 at hf
  refine lv_aload_n hx hb dX6_next_0 rfl (lv_at hl 0 rfl) ?_
  obtain ⟨rr18, hrr18, hf⟩ := bind_s hf
  refine g0_cV (rm := (0, 0)) (As := []) (rest := []) ⟨hx, hb, hml, hown, hts⟩ hG hR hS (m6_peekY l G K (ov I [(501, o, w1_i_p), (502, o, i_at), (503, o, i_token), (504, o, i_value), (505, o, i_many)]) (ov J [(506, o, j_name)]) X A B Q o h sh_o sh_h x_o_thisR i_h_size w1_i_p a_h_tape ((congrFun (ov_no rfl) _).trans e_i_h_size) (ov_get 0 rfl rfl) e_a_h_tape rr18 hrr18) ⟨callB_of 0 hts (lw_meth q855) rfl rfl rfl (hts _ q110) (hts _ q852) (by decide +kernel) ⟨Nat.le_of_ble_eq_true rfl, Nat.le_of_ble_eq_true rfl⟩, hts _ q854, x_selP (by decide +kernel) (hG.1.1 5 _ rfl).2.1 (va_Nw.use rfl (hG.2 _ q853 rfl)) (hts _ q854) (hts _ q847)⟩ sh_o.1 rfl rfl hl.1 (Nat.le_of_ble_eq_true rfl) dX6_next_1 ⟨Nat.le_refl _, Nat.le_refl _⟩ rfl (fun H locs hR hS => ?_)
  refine lv_bipush (v := 32) hx hb dX6_next_4 lb_32 ?_
  have hj18 : ∀ (_ : Unit), f6_nextY_j18 w1_i_p = some o1 → ∀ (H : Heap) (locs : List Loc) (ls : Array Slot), RS G K (ov I [(501, o, w1_i_p), (502, o, i_at), (503, o, i_token), (504, o, i_value), (505, o, i_many)]) (ov J [(506, o, j_name)]) X A B Q H → va_S (gA G) s.heap H locs → lv_has ls 2 [(0, .ref o)] → W p l e ({ frames := 3, cells := 0, slots := 0, locals := 65 } : Room) s m args below meth c H locs 0 0 Z (F0 m 18 ls []) := by
    intro _ hf H locs ls hR hS hl
    unfold f6_nextY_j18 at hf
    refine lv_aload_n hx hb dX6_next_18 rfl (lv_at hl 0 rfl) ?_
    refine lv_dup hx hb dX6_next_19 rfl ?_
    refine n_geti (v := w1_i_p) hx hb hts hown hG hR gFi_X6_19_5 sh_o.1 (ov_get 0 rfl rfl) dX6_next_20 ?_
    refine lv_iconst (v := 1) hx hb dX6_next_23 li_1 ?_
    obtain ⟨v19, ev19, hf⟩ := lt_some hf
    refine n_iadd hx hb ev19 dX6_next_24 ?_
    refine n_puti (li' := [(501, o, v19), (502, o, i_at), (503, o, i_token), (504, o, i_value), (505, o, i_many)]) hx hb hts hown hG hR hS gPi_X6_19_5 sh_o.1 0 rfl rfl rfl dX6_next_25 (fun H locs hR hS => ?_)
    refine lv_goto (tgt := 0) hx hb dX6_next_28 (by decide) ?_
    obtain rfl := some_i hf
    exact hk1 _ _ _ hR hS (lv_sub hl [0] rfl)
  refine lv_icmp_eq (tgt := 18) hx hb dX6_next_6 (by decide) (fun c20 => ?_) (fun c20 => ?_)
  · have hf := ite_t c20 hf
    exact hj18 () hf _ _ _ hR hS (lv_sub hl [0] rfl)
  · have hf := ite_f c20 hf
    refine lv_aload_n hx hb dX6_next_9 rfl (lv_at hl 0 rfl) ?_
    obtain ⟨rr21, hrr21, hf⟩ := bind_s hf
    refine g0_cV (rm := (0, 0)) (As := []) (rest := []) ⟨hx, hb, hml, hown, hts⟩ hG hR hS (m6_peekY l G K (ov I [(501, o, w1_i_p), (502, o, i_at), (503, o, i_token), (504, o, i_value), (505, o, i_many)]) (ov J [(506, o, j_name)]) X A B Q o h sh_o sh_h x_o_thisR i_h_size w1_i_p a_h_tape ((congrFun (ov_no rfl) _).trans e_i_h_size) (ov_get 0 rfl rfl) e_a_h_tape rr21 hrr21) ⟨callB_of 0 hts (lw_meth q855) rfl rfl rfl (hts _ q110) (hts _ q852) (by decide +kernel) ⟨Nat.le_of_ble_eq_true rfl, Nat.le_of_ble_eq_true rfl⟩, hts _ q854, x_selP (by decide +kernel) (hG.1.1 5 _ rfl).2.1 (va_Nw.use rfl (hG.2 _ q853 rfl)) (hts _ q854) (hts _ q847)⟩ sh_o.1 rfl rfl hl.1 (Nat.le_of_ble_eq_true rfl) dX6_next_10 ⟨Nat.le_refl _, Nat.le_refl _⟩ rfl (fun H locs hR hS => ?_)
    refine lv_bipush (v := 10) hx hb dX6_next_13 lb_10 ?_
    refine lv_icmp_ne (tgt := 31) hx hb dX6_next_15 (by decide) (fun c22 => ?_) (fun c22 => ?_)
    · have hf := ite_f c22 hf
      obtain rfl := some_i hf
      replace hk1 : _ = rl1 := hk1
      subst hk1
      exact hx1_0 w1_i_p hfo1 _ _ _ hR hS (lv_sub hl [0] rfl)
    · have hf := ite_t c22 hf
      exact hj18 () hf _ _ _ hR hS (lv_sub hl [0] rfl)
noncomputable def f6_beginY (i_h_size : Int32) (i_most : Int32) (i_p : Int32) (i_at : Int32) (i_token : Int32) (i_value : Int32) (i_many : Int32) (j_name : Int64) (a_h_tape : Nat → Int32) : Option (Int32 × Int32 × Int32 × Int32 × Int32 × Int64) :=
  (f6_nextY i_h_size i_most (0 : Int32) i_at i_token i_value i_many j_name a_h_tape).bind fun rr1 =>
  some (rr1.1, rr1.2.1, rr1.2.2.1, rr1.2.2.2.1, rr1.2.2.2.2.1, rr1.2.2.2.2.2)
set_option maxHeartbeats 4000000 in
theorem m6_beginY (l : Launch) (G : gG) (K : gK) (I : gI) (J : gJ) (X : gX) (A : gI) (B : gJ) (Q : gX) (o : Nat) (h : Nat) (sh_o : Sh K X o 5 rows5) (sh_h : Sh K X h 0 rows0) (x_o_thisR : X 507 o = some h)  (i_h_size : Int32) (i_most : Int32) (i_p : Int32) (i_at : Int32) (i_token : Int32) (i_value : Int32) (i_many : Int32) (j_name : Int64) (a_h_tape : Nat → Int32) (e_i_h_size : I 2 h = i_h_size) (e_i_most : I 500 o = i_most) (e_i_p : I 501 o = i_p) (e_i_at : I 502 o = i_at) (e_i_token : I 503 o = i_token) (e_i_value : I 504 o = i_value) (e_i_many : I 505 o = i_many) (e_j_name : J 506 o = j_name) (e_a_h_tape : A (h + 1) = a_h_tape) (out : Int32 × Int32 × Int32 × Int32 × Int32 × Int64) (hf : f6_beginY i_h_size i_most i_p i_at i_token i_value i_many j_name a_h_tape = some out) : GMet l yX6_begin cX6_begin 1 none (4) (86) G [.ref o] K I J X A B Q none K (ov I [(501, o, out.1), (502, o, out.2.1), (503, o, out.2.2.1), (504, o, out.2.2.2.1), (505, o, out.2.2.2.2.1)]) (ov J [(506, o, out.2.2.2.2.2)]) X A B Q 0 0 := by
  refine GMet.of (y := yX6_begin) rfl (Nat.le_of_ble_eq_true rfl) rfl ?_
  intro p e s m below meth c ls hx hb hr hml hlocks hts hown hname hG hR hl
  have hown : s.vm.findClass RX6 = some m.cls := hown
  have k_a_h_tape : K (h + 1) = some (.inr (2, 740)) := (sh_h.2 0 _ rfl).1
  have hR : RS G K (ov I [(501, o, i_p), (502, o, i_at), (503, o, i_token), (504, o, i_value), (505, o, i_many)]) (ov J [(506, o, j_name)]) X A B Q s.heap := hR.to (Eq.symm (ov_sc e_i_p (ov_sc e_i_at (ov_sc e_i_token (ov_sc e_i_value (ov_sc e_i_many rfl)))))) (Eq.symm (ov_sc e_j_name rfl)) rfl rfl rfl rfl
  have hS : va_S (gA G) s.heap s.heap [] := va_S.rf
  have hend : ∀ (pc : Nat) (H : Heap) (locs : List Loc) (ls : Array Slot), decode cX6_begin pc = .ok (.return_, 1) → RS G K (ov I [(501, o, out.1), (502, o, out.2.1), (503, o, out.2.2.1), (504, o, out.2.2.2.1), (505, o, out.2.2.2.2.1)]) (ov J [(506, o, out.2.2.2.2.2)]) X A B Q H → va_S (gA G) s.heap H locs → W p l e ({ frames := 4, cells := 0, slots := 0, locals := 86 } : Room) s m ([.ref o] : List Value).toArray below meth c H locs 0 0 (MQ below (gQ G none K (ov I [(501, o, out.1), (502, o, out.2.1), (503, o, out.2.2.1), (504, o, out.2.2.2.1), (505, o, out.2.2.2.2.1)]) (ov J [(506, o, out.2.2.2.2.2)]) X A B Q) ([.ref o] : List Value).toArray s 0 0 (gA G)) (F0 m pc ls []) := fun pc H locs ls hd hR hS => g_vret hx hb hr hlocks hG hR hS rfl hd
  generalize MQ below (gQ G none K (ov I [(501, o, out.1), (502, o, out.2.1), (503, o, out.2.2.1), (504, o, out.2.2.2.1), (505, o, out.2.2.2.2.1)]) (ov J [(506, o, out.2.2.2.2.2)]) X A B Q) ([.ref o] : List Value).toArray s 0 0 (gA G) = Z at hend ⊢
  generalize ([.ref o] : List Value).toArray = args at hts hend ⊢
  unfold f6_beginY at hf
  refine lv_aload_n hx hb dX6_begin_0 rfl (lv_at hl 0 rfl) ?_
  refine lv_iconst (v := 0) hx hb dX6_begin_1 li_0 ?_
  refine n_puti (li' := [(501, o, (0 : Int32)), (502, o, i_at), (503, o, i_token), (504, o, i_value), (505, o, i_many)]) hx hb hts hown hG hR hS gPi_X6_19_5 sh_o.1 0 rfl rfl rfl dX6_begin_2 (fun H locs hR hS => ?_)
  refine lv_aload_n hx hb dX6_begin_5 rfl (lv_at hl 0 rfl) ?_
  obtain ⟨rr1, hrr1, hf⟩ := bind_s hf
  refine g0_cUv (rm := (3, 65)) (As := []) (rest := []) ⟨hx, hb, hml, hown, hts⟩ hG hR hS (m6_nextY l G K (ov I [(501, o, (0 : Int32)), (502, o, i_at), (503, o, i_token), (504, o, i_value), (505, o, i_many)]) (ov J [(506, o, j_name)]) X A B Q o h sh_o sh_h x_o_thisR i_h_size i_most (0 : Int32) i_at i_token i_value i_many j_name a_h_tape ((congrFun (ov_no rfl) _).trans e_i_h_size) ((congrFun (ov_no rfl) _).trans e_i_most) (ov_get 0 rfl rfl) (ov_get 1 rfl rfl) (ov_get 2 rfl rfl) (ov_get 3 rfl rfl) (ov_get 4 rfl rfl) (ov_get 0 rfl rfl) e_a_h_tape rr1 hrr1) (va_cwU (x := ⟨"PailRow$Reader", "next", "()V"⟩) (owner := "PailRow$Reader") 0 hts gu_X6_22_5 rfl rfl rfl rfl ⟨by decide, by decide, (hd_X6_next.2).2.2⟩ ⟨Nat.le_of_ble_eq_true rfl, Nat.le_of_ble_eq_true rfl⟩) sh_o.1 rfl rfl hl.1 (Nat.le_of_ble_eq_true rfl) dX6_begin_6 ⟨Nat.le_refl _, Nat.le_refl _⟩ rfl (fun H locs hR hS => ?_)
  have hR : RS G K (ov I [(501, o, rr1.1), (502, o, rr1.2.1), (503, o, rr1.2.2.1), (504, o, rr1.2.2.2.1), (505, o, rr1.2.2.2.2.1)]) (ov J [(506, o, rr1.2.2.2.2.2)]) X A B Q H := hR.to (ov_merge (l := [(501, o, (0 : Int32)), (502, o, i_at), (503, o, i_token), (504, o, i_value), (505, o, i_many)]) rfl [0, 1, 2, 3, 4] [(501, o, rr1.1), (502, o, rr1.2.1), (503, o, rr1.2.2.1), (504, o, rr1.2.2.2.1), (505, o, rr1.2.2.2.2.1)] rfl rfl) (ov_merge (l := [(506, o, j_name)]) rfl [0] [(506, o, rr1.2.2.2.2.2)] rfl rfl) rfl rfl rfl rfl
  obtain rfl := some_i hf
  exact hend _ _ _ _ dX6_begin_9 hR hS
noncomputable def f6_isY_e3_0 (x3_0 : Int32) : Option (Int32) :=
  some x3_0

noncomputable def f6_isY_s3 (s1 : Nat) (i_at : Int32) (i_many : Int32) (a_h_tape : Nat → Int32) (w3_2 : Int32) : Option ((Int32) ⊕ (Int32)) :=
  if i_many ≤ w3_2 then
    some (.inr (1 : Int32))
  else
    lt (i_at + w3_2) fun v5 =>
    gd (inb v5 740) <|
    lt (a_h_tape v5.toNatClampNeg) fun v7 =>
    gd (inb w3_2 (lenS s1)) <|
    if v7 = (bytS s1 w3_2.toNatClampNeg) then
      lt (w3_2 + (1 : Int32)) fun v10 =>
      some (.inl v10)
    else
      some (.inr (0 : Int32))

noncomputable def f6_isY (s1 : Nat) (i_at : Int32) (i_token : Int32) (i_many : Int32) (a_h_tape : Nat → Int32) : Option (Int32) :=
  if i_token = (1 : Int32) then
    if i_many = (Int32.ofNat (lenS s1)) then
      (whl (fun (s3 : Int32) => f6_isY_s3 s1 i_at i_many a_h_tape s3) FU (0 : Int32)).bind fun rl3 =>
      f6_isY_e3_0 rl3
    else
      some (0 : Int32)
  else
    some (0 : Int32)
set_option maxHeartbeats 4000000 in
theorem m6_isY (l : Launch) (G : gG) (K : gK) (I : gI) (J : gJ) (X : gX) (A : gI) (B : gJ) (Q : gX) (o : Nat) (h : Nat) (sh_o : Sh K X o 5 rows5) (sh_h : Sh K X h 0 rows0) (x_o_thisR : X 507 o = some h) (s1 : Nat) (hs_1 : s1 < 29) (i_at : Int32) (i_token : Int32) (i_many : Int32) (a_h_tape : Nat → Int32) (e_i_at : I 502 o = i_at) (e_i_token : I 503 o = i_token) (e_i_many : I 505 o = i_many) (e_a_h_tape : A (h + 1) = a_h_tape) (out : Int32) (hf : f6_isY s1 i_at i_token i_many a_h_tape = some out) : GMetX l yX6_is cX6_is 3 (some .boolean) (4) (85) G [.ref o, .ref (aK G s1)] K I J X A B Q (.inr (some (.int out))) K I J X A B Q 0 0 := by
  refine GMetX.of (y := yX6_is) rfl (Nat.le_of_ble_eq_true rfl) rfl ?_
  intro p e s m below meth c ls hx hb hr hml hlocks hts hown hname ht hG hR hW hl
  have hown : s.vm.findClass RX6 = some m.cls := hown
  have k_a_h_tape : K (h + 1) = some (.inr (2, 740)) := (sh_h.2 0 _ rfl).1
  have hR : RS G K I J X A B Q s.heap := hR.to rfl rfl rfl rfl rfl rfl
  have hS : va_S (gA G) s.heap s.heap [] := va_S.rf
  have hend : ∀ (pc : Nat) (H : Heap) (locs : List Loc) (ls : Array Slot), decode cX6_is pc = .ok (.ireturn, 1) → narrow .boolean (.int out) = .int out → RS G K I J X A B Q H → va_S (gA G) s.heap H locs → W p l e ({ frames := 4, cells := 0, slots := 0, locals := 85 } : Room) s m ([.ref o, .ref (aK G s1)] : List Value).toArray below meth c H locs 0 0 (vx_MQ below (xQ G (.inr (some (.int out))) K I J X A B Q) (xX G (.inr (some (.int out))) K I J X A B Q) ([.ref o, .ref (aK G s1)] : List Value).toArray s 0 0 (gA G)) (F0 m pc ls [.int out]) := fun pc H locs ls hd hz hR hS => x_nret hx hb hr hz hlocks hG hR hS rfl hd
  generalize vx_MQ below (xQ G (.inr (some (.int out))) K I J X A B Q) (xX G (.inr (some (.int out))) K I J X A B Q) ([.ref o, .ref (aK G s1)] : List Value).toArray s 0 0 (gA G) = Z at hend ⊢
  generalize ([.ref o, .ref (aK G s1)] : List Value).toArray = args at hts hend ⊢
  unfold f6_isY at hf
  refine lv_aload_n hx hb dX6_is_0 rfl (lv_at hl 0 rfl) ?_
  refine n_geti (v := i_token) hx hb hts hown hG hR gFi_X6_43_5 sh_o.1 e_i_token dX6_is_1 ?_
  refine lv_iconst (v := 1) hx hb dX6_is_4 li_1 ?_
  refine lv_icmp_ne (tgt := 19) hx hb dX6_is_5 (by decide) (fun c1 => ?_) (fun c1 => ?_)
  · have hf := ite_f c1 hf
    refine lv_iconst (v := 0) hx hb dX6_is_19 li_0 ?_
    obtain rfl := some_i hf
    exact hend _ _ _ _ dX6_is_20 nz_0 hR hS
  · have hf := ite_t c1 hf
    refine lv_aload_n hx hb dX6_is_8 rfl (lv_at hl 0 rfl) ?_
    refine n_geti (v := i_many) hx hb hts hown hG hR gFi_X6_64_5 sh_o.1 e_i_many dX6_is_9 ?_
    refine lv_aload_n hx hb dX6_is_12 rfl (lv_at hl 1 rfl) ?_
    refine g_slen (R := ({ frames := 4, cells := 0, slots := 0, locals := 85 } : Room)) (rest := [.int i_many]) ⟨hx, hb, hml, hown, hts⟩ hG hR hW hS hs_1 ⟨callB_of 0 hts (lw_meth q887) rfl rfl rfl (hts _ q119) (hts _ q884) (by decide +kernel) ⟨Nat.le_of_ble_eq_true rfl, Nat.le_of_ble_eq_true rfl⟩, hts _ q885, hts _ q886⟩ hl.1 (Nat.le_of_ble_eq_true rfl) dX6_is_13 ⟨Nat.le_refl _, Nat.le_refl _⟩ (fun H locs hR hS => ?_)
    refine lv_icmp_eq (tgt := 21) hx hb dX6_is_16 (by decide) (fun c2 => ?_) (fun c2 => ?_)
    · have hf := ite_t c2 hf
      refine lv_iconst (v := 0) hx hb dX6_is_21 li_0 ?_
      refine lv_istore_n (lv' := [(2, .int (0 : Int32)), (0, .ref o), (1, .ref (aK G s1))]) hx hb dX6_is_22 rfl hl (by decide) rfl (fun ls hl => ?_)
      obtain ⟨rl3, hw3, hfo3⟩ := bind_s hf
      have hx3_0 : ∀ (x3_0 : Int32), f6_isY_e3_0 x3_0 = some out → ∀ (pc : Nat) (H : Heap) (locs : List Loc) (ls : Array Slot), decode cX6_is pc = .ok (.ireturn, 1) → narrow .boolean (.int x3_0) = .int x3_0 → RS G K I J X A B Q H → va_S (gA G) s.heap H locs → W p l e ({ frames := 4, cells := 0, slots := 0, locals := 85 } : Room) s m args below meth c H locs 0 0 Z (F0 m pc ls [.int x3_0]) := by
        intro x3_0 hf pc H locs ls hd hz hR hS
        unfold f6_isY_e3_0 at hf
        obtain rfl := some_i hf
        exact hend _ _ _ _ hd hz hR hS
      refine whl_walk (P := fun (s3 : Int32) => ∀ (H : Heap) (locs : List Loc) (ls : Array Slot), RS G K I J X A B Q H → va_S (gA G) s.heap H locs → lv_has ls 3 [(0, .ref o), (1, .ref (aK G s1)), (2, .int s3)] → W p l e ({ frames := 4, cells := 0, slots := 0, locals := 85 } : Room) s m args below meth c H locs 0 0 Z (F0 m 23 ls [])) (r := rl3) ?_ FU _ hw3 _ _ _ hR hS (lv_sub hl [1, 2, 0] rfl)
      clear hR hS hl hf
      intro s3 o3 hf hk3 H locs ls hR hS hl
      obtain ⟨w3_2, rfl⟩ : ∃ z, z = s3 := ⟨_, rfl⟩
      have hf : f6_isY_s3 s1 i_at i_many a_h_tape w3_2 = some o3 := hf
      have hR : RS G K I J X A B Q H := hR
      have hl : lv_has ls 3 [(0, .ref o), (1, .ref (aK G s1)), (2, .int w3_2)] := hl
      unfold f6_isY_s3 at hf
      refine lv_iload_n hx hb dX6_is_23 rfl (lv_at hl 2 rfl) ?_
      refine lv_aload_n hx hb dX6_is_24 rfl (lv_at hl 0 rfl) ?_
      refine n_geti (v := i_many) hx hb hts hown hG hR gFi_X6_64_5 sh_o.1 e_i_many dX6_is_25 ?_
      refine lv_icmp_ge (tgt := 61) hx hb dX6_is_28 (by decide) (fun c4 => ?_) (fun c4 => ?_)
      · have hf := ite_t c4 hf
        refine lv_iconst (v := 1) hx hb dX6_is_61 li_1 ?_
        obtain rfl := some_i hf
        replace hk3 : _ = rl3 := hk3
        subst hk3
        exact hx3_0 (1 : Int32) hfo3 _ _ _ _ dX6_is_62 nz_1 hR hS
      · have hf := ite_f c4 hf
        refine lv_aload_n hx hb dX6_is_31 rfl (lv_at hl 0 rfl) ?_
        refine g_getr (b := h) hx hb hts hown hG hR gFx_X6_3_5 sh_o.1 x_o_thisR dX6_is_32 ?_
        refine g_getr (b := (h + 1)) hx hb hts hown hG hR gFx_X6_28_0 sh_h.1 ((sh_h.2 0 _ rfl).2) dX6_is_35 ?_
        refine lv_aload_n hx hb dX6_is_38 rfl (lv_at hl 0 rfl) ?_
        refine n_geti (v := i_at) hx hb hts hown hG hR gFi_X6_40_5 sh_o.1 e_i_at dX6_is_39 ?_
        refine lv_iload_n hx hb dX6_is_42 rfl (lv_at hl 2 rfl) ?_
        obtain ⟨v5, ev5, hf⟩ := lt_some hf
        refine n_iadd hx hb ev5 dX6_is_43 ?_
        obtain ⟨c6, hf⟩ := gd_some hf
        obtain ⟨v7, ev7, hf⟩ := lt_some hf
        refine n_bald (x := a_h_tape) hx hb hG hR k_a_h_tape c6 e_a_h_tape ev7 dX6_is_44 ?_
        refine lv_aload_n hx hb dX6_is_45 rfl (lv_at hl 1 rfl) ?_
        refine lv_iload_n hx hb dX6_is_46 rfl (lv_at hl 2 rfl) ?_
        obtain ⟨c8, hf⟩ := gd_some hf
        refine g_scha (R := ({ frames := 4, cells := 0, slots := 0, locals := 85 } : Room)) (rest := [.int v7]) ⟨hx, hb, hml, hown, hts⟩ hG hR hW hS hs_1 c8 ⟨callB_of 1 hts (lw_meth q897) rfl rfl rfl (hts _ q119) (hts _ q894) (by decide +kernel) ⟨Nat.le_of_ble_eq_true rfl, Nat.le_of_ble_eq_true rfl⟩, hts _ q895, hts _ q896⟩ hl.1 (Nat.le_of_ble_eq_true rfl) dX6_is_47 ⟨Nat.le_refl _, Nat.le_refl _⟩ (fun H locs hR hS => ?_)
        refine lv_icmp_eq (tgt := 55) hx hb dX6_is_50 (by decide) (fun c9 => ?_) (fun c9 => ?_)
        · have hf := ite_t c9 hf
          obtain ⟨v10, ev10, hf⟩ := lt_some hf
          refine lv_iinc (k := 2) (v := v10) (lv' := [(2, .int v10), (0, .ref o), (1, .ref (aK G s1))]) hx hb dX6_is_55 hl rfl (by rw [ev10]; rfl) (by decide) rfl (fun ls hl => ?_)
          refine lv_goto (tgt := 23) hx hb dX6_is_58 (by decide) ?_
          obtain rfl := some_i hf
          exact hk3 _ _ _ hR hS (lv_sub hl [1, 2, 0] rfl)
        · have hf := ite_f c9 hf
          refine lv_iconst (v := 0) hx hb dX6_is_53 li_0 ?_
          obtain rfl := some_i hf
          replace hk3 : _ = rl3 := hk3
          subst hk3
          exact hx3_0 (0 : Int32) hfo3 _ _ _ _ dX6_is_54 nz_0 hR hS
    · have hf := ite_f c2 hf
      refine lv_iconst (v := 0) hx hb dX6_is_19 li_0 ?_
      obtain rfl := some_i hf
      exact hend _ _ _ _ dX6_is_20 nz_0 hR hS
noncomputable def f6_findY_e1_0 (x1_0 : Int32) : Option (Int32) :=
  some x1_0

noncomputable def f6_findY_e1_1 (x1_1 : Int32) : Option (Int32) :=
  some x1_1

noncomputable def f6_findY_s1 (n1 : Nat) (b1 : Nat) (i_at : Int32) (i_token : Int32) (i_many : Int32) (a_h_tape : Nat → Int32) (w1_2 : Int32) : Option ((Int32) ⊕ ((Int32) ⊕ (Int32))) :=
  if (Int32.ofNat n1) ≤ w1_2 then
    some (.inr (.inr (-1 : Int32)))
  else
    gd (inb w1_2 n1) <|
    (f6_isY (b1 + w1_2.toNatClampNeg) i_at i_token i_many a_h_tape).bind fun rr4 =>
    if rr4 = 0 then
      lt (w1_2 + (1 : Int32)) fun v6 =>
      some (.inl v6)
    else
      some (.inr (.inl w1_2))

noncomputable def f6_findY (n1 : Nat) (b1 : Nat) (i_at : Int32) (i_token : Int32) (i_many : Int32) (a_h_tape : Nat → Int32) : Option (Int32) :=
  (whl (fun (s1 : Int32) => f6_findY_s1 n1 b1 i_at i_token i_many a_h_tape s1) FU (0 : Int32)).bind fun rl1 =>
  Sum.elim (f6_findY_e1_0) (f6_findY_e1_1) rl1
set_option maxHeartbeats 4000000 in
theorem m6_findY (l : Launch) (G : gG) (K : gK) (I : gI) (J : gJ) (X : gX) (A : gI) (B : gJ) (Q : gX) (o : Nat) (h : Nat) (sh_o : Sh K X o 5 rows5) (sh_h : Sh K X h 0 rows0) (x_o_thisR : X 507 o = some h) (r1 : Nat) (n1 : Nat) (b1 : Nat) (k_r1 : K r1 = some (.inr (8, n1))) (hb_1 : b1 + n1 ≤ 29) (hq_1 : ∀ j, j < n1 → Q r1 j = some (aK G (b1 + j))) (i_at : Int32) (i_token : Int32) (i_many : Int32) (a_h_tape : Nat → Int32) (e_i_at : I 502 o = i_at) (e_i_token : I 503 o = i_token) (e_i_many : I 505 o = i_many) (e_a_h_tape : A (h + 1) = a_h_tape) (out : Int32) (hf : f6_findY n1 b1 i_at i_token i_many a_h_tape = some out) : GMetX l yX6_find cX6_find 3 (some .int) (5) (107) G [.ref o, .ref r1] K I J X A B Q (.inr (some (.int out))) K I J X A B Q 0 0 := by
  refine GMetX.of (y := yX6_find) rfl (Nat.le_of_ble_eq_true rfl) rfl ?_
  intro p e s m below meth c ls hx hb hr hml hlocks hts hown hname ht hG hR hW hl
  have hown : s.vm.findClass RX6 = some m.cls := hown
  have k_a_h_tape : K (h + 1) = some (.inr (2, 740)) := (sh_h.2 0 _ rfl).1
  have hR : RS G K I J X A B Q s.heap := hR.to rfl rfl rfl rfl rfl rfl
  have hS : va_S (gA G) s.heap s.heap [] := va_S.rf
  have hend : ∀ (pc : Nat) (H : Heap) (locs : List Loc) (ls : Array Slot), decode cX6_find pc = .ok (.ireturn, 1) → RS G K I J X A B Q H → va_S (gA G) s.heap H locs → W p l e ({ frames := 5, cells := 0, slots := 0, locals := 107 } : Room) s m ([.ref o, .ref r1] : List Value).toArray below meth c H locs 0 0 (vx_MQ below (xQ G (.inr (some (.int out))) K I J X A B Q) (xX G (.inr (some (.int out))) K I J X A B Q) ([.ref o, .ref r1] : List Value).toArray s 0 0 (gA G)) (F0 m pc ls [.int out]) := fun pc H locs ls hd hR hS => x_nret hx hb hr rfl hlocks hG hR hS rfl hd
  generalize vx_MQ below (xQ G (.inr (some (.int out))) K I J X A B Q) (xX G (.inr (some (.int out))) K I J X A B Q) ([.ref o, .ref r1] : List Value).toArray s 0 0 (gA G) = Z at hend ⊢
  generalize ([.ref o, .ref r1] : List Value).toArray = args at hts hend ⊢
  unfold f6_findY at hf
  refine lv_iconst (v := 0) hx hb dX6_find_0 li_0 ?_
  refine lv_istore_n (lv' := [(2, .int (0 : Int32)), (0, .ref o), (1, .ref r1)]) hx hb dX6_find_1 rfl hl (by decide) rfl (fun ls hl => ?_)
  obtain ⟨rl1, hw1, hfo1⟩ := bind_s hf
  have hx1_0 : ∀ (x1_0 : Int32), f6_findY_e1_0 x1_0 = some out → ∀ (H : Heap) (locs : List Loc) (ls : Array Slot), RS G K I J X A B Q H → va_S (gA G) s.heap H locs → lv_has ls 3 [(0, .ref o), (2, .int x1_0)] → W p l e ({ frames := 5, cells := 0, slots := 0, locals := 107 } : Room) s m args below meth c H locs 0 0 Z (F0 m 18 ls []) := by
    intro x1_0 hf H locs ls hR hS hl
    unfold f6_findY_e1_0 at hf
    refine lv_iload_n hx hb dX6_find_18 rfl (lv_at hl 1 rfl) ?_
    obtain rfl := some_i hf
    exact hend _ _ _ _ dX6_find_19 hR hS
  have hx1_1 : ∀ (x1_1 : Int32), f6_findY_e1_1 x1_1 = some out → ∀ (pc : Nat) (H : Heap) (locs : List Loc) (ls : Array Slot), decode cX6_find pc = .ok (.ireturn, 1) → RS G K I J X A B Q H → va_S (gA G) s.heap H locs → W p l e ({ frames := 5, cells := 0, slots := 0, locals := 107 } : Room) s m args below meth c H locs 0 0 Z (F0 m pc ls [.int x1_1]) := by
    intro x1_1 hf pc H locs ls hd hR hS
    unfold f6_findY_e1_1 at hf
    obtain rfl := some_i hf
    exact hend _ _ _ _ hd hR hS
  refine whl_walk (P := fun (s1 : Int32) => ∀ (H : Heap) (locs : List Loc) (ls : Array Slot), RS G K I J X A B Q H → va_S (gA G) s.heap H locs → lv_has ls 3 [(0, .ref o), (1, .ref r1), (2, .int s1)] → W p l e ({ frames := 5, cells := 0, slots := 0, locals := 107 } : Room) s m args below meth c H locs 0 0 Z (F0 m 2 ls [])) (r := rl1) ?_ FU _ hw1 _ _ _ hR hS (lv_sub hl [1, 2, 0] rfl)
  clear hR hS hl hf
  intro s1 o1 hf hk1 H locs ls hR hS hl
  obtain ⟨w1_2, rfl⟩ : ∃ z, z = s1 := ⟨_, rfl⟩
  have hf : f6_findY_s1 n1 b1 i_at i_token i_many a_h_tape w1_2 = some o1 := hf
  have hR : RS G K I J X A B Q H := hR
  have hl : lv_has ls 3 [(0, .ref o), (1, .ref r1), (2, .int w1_2)] := hl
  unfold f6_findY_s1 at hf
  refine lv_iload_n hx hb dX6_find_2 rfl (lv_at hl 2 rfl) ?_
  refine lv_aload_n hx hb dX6_find_3 rfl (lv_at hl 1 rfl) ?_
  refine g_alen hx hb hG hR k_r1 (by decide) rfl dX6_find_4 ?_
  refine lv_icmp_ge (tgt := 26) hx hb dX6_find_5 (by decide) (fun c2 => ?_) (fun c2 => ?_)
  · have hf := ite_t c2 hf
    refine lv_iconst (v := -1) hx hb dX6_find_26 li_m1 ?_
    obtain rfl := some_i hf
    replace hk1 : _ = rl1 := hk1
    subst hk1
    exact hx1_1 (-1 : Int32) (el_r hfo1) _ _ _ _ dX6_find_27 hR hS
  · have hf := ite_f c2 hf
    refine lv_aload_n hx hb dX6_find_8 rfl (lv_at hl 0 rfl) ?_
    refine lv_aload_n hx hb dX6_find_9 rfl (lv_at hl 1 rfl) ?_
    refine lv_iload_n hx hb dX6_find_10 rfl (lv_at hl 2 rfl) ?_
    obtain ⟨c3, hf⟩ := gd_some hf
    refine g_aaldr (b := aK G (b1 + w1_2.toNatClampNeg)) hx hb hG hR (t := 4) k_r1 (by decide) c3 (hq_1 _ (inb_lt c3)) dX6_find_11 ?_
    obtain ⟨rr4, hrr4, hf⟩ := bind_s hf
    refine x0_gor (vx_runU (As := [.ref (aK G (b1 + w1_2.toNatClampNeg))]) (rest := []) (b := o) ⟨hx, hb, hml, hown, hts⟩ (m6_isY l G K I J X A B Q o h sh_o sh_h x_o_thisR (b1 + w1_2.toNatClampNeg) (Nat.lt_of_lt_of_le (Nat.add_lt_add_left (inb_lt c3) _) hb_1) i_at i_token i_many a_h_tape e_i_at e_i_token e_i_many e_a_h_tape rr4 hrr4) (va_cwU (x := ⟨"PailRow$Reader", "is", "(Ljava/lang/String;)Z"⟩) (owner := "PailRow$Reader") 1 hts gu_X6_76_5 rfl rfl rfl rfl ⟨by decide, by decide, (hd_X6_is.2).2.2⟩ ⟨Nat.le_of_ble_eq_true rfl, Nat.le_of_ble_eq_true rfl⟩) (x_preV hG hR hW hS sh_o.1 rfl) rfl rfl hl.1 rfl (lv_room (Nat.le_of_ble_eq_true rfl)) dX6_find_12 ⟨Nat.le_refl _, Nat.le_refl _⟩) hS (fun H locs hR hS => ?_)
    refine lv_if_eq (tgt := 20) hx hb dX6_find_15 (by decide) (fun c5 => ?_) (fun c5 => ?_)
    · have hf := ite_t c5 hf
      obtain ⟨v6, ev6, hf⟩ := lt_some hf
      refine lv_iinc (k := 2) (v := v6) (lv' := [(2, .int v6), (0, .ref o), (1, .ref r1)]) hx hb dX6_find_20 hl rfl (by rw [ev6]; rfl) (by decide) rfl (fun ls hl => ?_)
      refine lv_goto (tgt := 2) hx hb dX6_find_23 (by decide) ?_
      obtain rfl := some_i hf
      exact hk1 _ _ _ hR hS (lv_sub hl [1, 2, 0] rfl)
    · have hf := ite_f c5 hf
      obtain rfl := some_i hf
      replace hk1 : _ = rl1 := hk1
      subst hk1
      exact hx1_0 w1_2 (el_l hfo1) _ _ _ hR hS (lv_sub hl [0, 2] rfl)
noncomputable def f6_isNameY_j72  : Option (Int32) :=
  some (0 : Int32)

noncomputable def f6_isNameY (i_at : Int32) (i_token : Int32) (i_many : Int32) (a_h_tape : Nat → Int32) : Option (Int32) :=
  if i_token = (1 : Int32) then
    (f6_findY 10 0 i_at i_token i_many a_h_tape).bind fun rr2 =>
    if rr2 = (-1 : Int32) then
      (f6_findY 4 10 i_at i_token i_many a_h_tape).bind fun rr4 =>
      if rr4 = (-1 : Int32) then
        (f6_findY 5 14 i_at i_token i_many a_h_tape).bind fun rr6 =>
        if rr6 = (-1 : Int32) then
          (f6_findY 10 19 i_at i_token i_many a_h_tape).bind fun rr8 =>
          if rr8 = (-1 : Int32) then
            some (1 : Int32)
          else
            f6_isNameY_j72
        else
          f6_isNameY_j72
      else
        f6_isNameY_j72
    else
      f6_isNameY_j72
  else
    f6_isNameY_j72
set_option maxHeartbeats 4000000 in
theorem m6_isNameY (l : Launch) (G : gG) (K : gK) (I : gI) (J : gJ) (X : gX) (A : gI) (B : gJ) (Q : gX) (o : Nat) (h : Nat) (sh_o : Sh K X o 5 rows5) (sh_h : Sh K X h 0 rows0) (x_o_thisR : X 507 o = some h) (hs_h3 : ∀ j, j < 10 → Q (h + 3) j = some (aK G (0 + j))) (hs_h4 : ∀ j, j < 4 → Q (h + 4) j = some (aK G (10 + j))) (hs_h5 : ∀ j, j < 5 → Q (h + 5) j = some (aK G (14 + j))) (hs_h6 : ∀ j, j < 10 → Q (h + 6) j = some (aK G (19 + j)))  (i_at : Int32) (i_token : Int32) (i_many : Int32) (a_h_tape : Nat → Int32) (e_i_at : I 502 o = i_at) (e_i_token : I 503 o = i_token) (e_i_many : I 505 o = i_many) (e_a_h_tape : A (h + 1) = a_h_tape) (out : Int32) (hf : f6_isNameY i_at i_token i_many a_h_tape = some out) : GMetX l yX6_isName cX6_isName 1 (some .boolean) (6) (129) G [.ref o] K I J X A B Q (.inr (some (.int out))) K I J X A B Q 0 0 := by
  refine GMetX.of (y := yX6_isName) rfl (Nat.le_of_ble_eq_true rfl) rfl ?_
  intro p e s m below meth c ls hx hb hr hml hlocks hts hown hname ht hG hR hW hl
  have hown : s.vm.findClass RX6 = some m.cls := hown
  have k_a_h_tape : K (h + 1) = some (.inr (2, 740)) := (sh_h.2 0 _ rfl).1
  have hR : RS G K I J X A B Q s.heap := hR.to rfl rfl rfl rfl rfl rfl
  have hS : va_S (gA G) s.heap s.heap [] := va_S.rf
  have hend : ∀ (pc : Nat) (H : Heap) (locs : List Loc) (ls : Array Slot), decode cX6_isName pc = .ok (.ireturn, 1) → narrow .boolean (.int out) = .int out → RS G K I J X A B Q H → va_S (gA G) s.heap H locs → W p l e ({ frames := 6, cells := 0, slots := 0, locals := 129 } : Room) s m ([.ref o] : List Value).toArray below meth c H locs 0 0 (vx_MQ below (xQ G (.inr (some (.int out))) K I J X A B Q) (xX G (.inr (some (.int out))) K I J X A B Q) ([.ref o] : List Value).toArray s 0 0 (gA G)) (F0 m pc ls [.int out]) := fun pc H locs ls hd hz hR hS => x_nret hx hb hr hz hlocks hG hR hS rfl hd
  generalize vx_MQ below (xQ G (.inr (some (.int out))) K I J X A B Q) (xX G (.inr (some (.int out))) K I J X A B Q) ([.ref o] : List Value).toArray s 0 0 (gA G) = Z at hend ⊢
  generalize ([.ref o] : List Value).toArray = args at hts hend ⊢
  unfold f6_isNameY at hf
  refine lv_aload_n hx hb dX6_isName_0 rfl (lv_at hl 0 rfl) ?_
  refine n_geti (v := i_token) hx hb hts hown hG hR gFi_X6_43_5 sh_o.1 e_i_token dX6_isName_1 ?_
  refine lv_iconst (v := 1) hx hb dX6_isName_4 li_1 ?_
  have hj72 : ∀ (_ : Unit), f6_isNameY_j72 = some out → ∀ (H : Heap) (locs : List Loc) (ls : Array Slot), RS G K I J X A B Q H → va_S (gA G) s.heap H locs → lv_has ls 1 [(0, .ref o)] → W p l e ({ frames := 6, cells := 0, slots := 0, locals := 129 } : Room) s m args below meth c H locs 0 0 Z (F0 m 72 ls []) := by
    intro _ hf H locs ls hR hS hl
    unfold f6_isNameY_j72 at hf
    refine lv_iconst (v := 0) hx hb dX6_isName_72 li_0 ?_
    obtain rfl := some_i hf
    exact hend _ _ _ _ dX6_isName_73 nz_0 hR hS
  refine lv_icmp_ne (tgt := 72) hx hb dX6_isName_5 (by decide) (fun c1 => ?_) (fun c1 => ?_)
  · have hf := ite_f c1 hf
    exact hj72 () hf _ _ _ hR hS (lv_sub hl [0] rfl)
  · have hf := ite_t c1 hf
    refine lv_aload_n hx hb dX6_isName_8 rfl (lv_at hl 0 rfl) ?_
    refine lv_aload_n hx hb dX6_isName_9 rfl (lv_at hl 0 rfl) ?_
    refine g_getr (b := h) hx hb hts hown hG hR gFx_X6_3_5 sh_o.1 x_o_thisR dX6_isName_10 ?_
    refine g_getr (b := (h + 3)) hx hb hts hown hG hR gFx_X6_80_0 sh_h.1 ((sh_h.2 1 _ rfl).2) dX6_isName_13 ?_
    obtain ⟨rr2, hrr2, hf⟩ := bind_s hf
    refine x0_gor (vx_runU (As := [.ref (h + 3)]) (rest := []) (b := o) ⟨hx, hb, hml, hown, hts⟩ (m6_findY l G K I J X A B Q o h sh_o sh_h x_o_thisR (h + 3) 10 0 ((sh_h.2 1 _ rfl).1) (by decide) hs_h3 i_at i_token i_many a_h_tape e_i_at e_i_token e_i_many e_a_h_tape rr2 hrr2) (va_cwU (x := ⟨"PailRow$Reader", "find", "([Ljava/lang/String;)I"⟩) (owner := "PailRow$Reader") 1 hts gu_X6_84_5 rfl rfl rfl rfl ⟨by decide, by decide, (hd_X6_find.2).2.2⟩ ⟨Nat.le_of_ble_eq_true rfl, Nat.le_of_ble_eq_true rfl⟩) (x_preV hG hR hW hS sh_o.1 rfl) rfl rfl hl.1 rfl (lv_room (Nat.le_of_ble_eq_true rfl)) dX6_isName_16 ⟨Nat.le_refl _, Nat.le_refl _⟩) hS (fun H locs hR hS => ?_)
    refine lv_iconst (v := -1) hx hb dX6_isName_19 li_m1 ?_
    refine lv_icmp_ne (tgt := 72) hx hb dX6_isName_20 (by decide) (fun c3 => ?_) (fun c3 => ?_)
    · have hf := ite_f c3 hf
      exact hj72 () hf _ _ _ hR hS (lv_sub hl [0] rfl)
    · have hf := ite_t c3 hf
      refine lv_aload_n hx hb dX6_isName_23 rfl (lv_at hl 0 rfl) ?_
      refine lv_aload_n hx hb dX6_isName_24 rfl (lv_at hl 0 rfl) ?_
      refine g_getr (b := h) hx hb hts hown hG hR gFx_X6_3_5 sh_o.1 x_o_thisR dX6_isName_25 ?_
      refine g_getr (b := (h + 4)) hx hb hts hown hG hR gFx_X6_88_0 sh_h.1 ((sh_h.2 2 _ rfl).2) dX6_isName_28 ?_
      obtain ⟨rr4, hrr4, hf⟩ := bind_s hf
      refine x0_gor (vx_runU (As := [.ref (h + 4)]) (rest := []) (b := o) ⟨hx, hb, hml, hown, hts⟩ (m6_findY l G K I J X A B Q o h sh_o sh_h x_o_thisR (h + 4) 4 10 ((sh_h.2 2 _ rfl).1) (by decide) hs_h4 i_at i_token i_many a_h_tape e_i_at e_i_token e_i_many e_a_h_tape rr4 hrr4) (va_cwU (x := ⟨"PailRow$Reader", "find", "([Ljava/lang/String;)I"⟩) (owner := "PailRow$Reader") 1 hts gu_X6_84_5 rfl rfl rfl rfl ⟨by decide, by decide, (hd_X6_find.2).2.2⟩ ⟨Nat.le_of_ble_eq_true rfl, Nat.le_of_ble_eq_true rfl⟩) (x_preV hG hR hW hS sh_o.1 rfl) rfl rfl hl.1 rfl (lv_room (Nat.le_of_ble_eq_true rfl)) dX6_isName_31 ⟨Nat.le_refl _, Nat.le_refl _⟩) hS (fun H locs hR hS => ?_)
      refine lv_iconst (v := -1) hx hb dX6_isName_34 li_m1 ?_
      refine lv_icmp_ne (tgt := 72) hx hb dX6_isName_35 (by decide) (fun c5 => ?_) (fun c5 => ?_)
      · have hf := ite_f c5 hf
        exact hj72 () hf _ _ _ hR hS (lv_sub hl [0] rfl)
      · have hf := ite_t c5 hf
        refine lv_aload_n hx hb dX6_isName_38 rfl (lv_at hl 0 rfl) ?_
        refine lv_aload_n hx hb dX6_isName_39 rfl (lv_at hl 0 rfl) ?_
        refine g_getr (b := h) hx hb hts hown hG hR gFx_X6_3_5 sh_o.1 x_o_thisR dX6_isName_40 ?_
        refine g_getr (b := (h + 5)) hx hb hts hown hG hR gFx_X6_91_0 sh_h.1 ((sh_h.2 3 _ rfl).2) dX6_isName_43 ?_
        obtain ⟨rr6, hrr6, hf⟩ := bind_s hf
        refine x0_gor (vx_runU (As := [.ref (h + 5)]) (rest := []) (b := o) ⟨hx, hb, hml, hown, hts⟩ (m6_findY l G K I J X A B Q o h sh_o sh_h x_o_thisR (h + 5) 5 14 ((sh_h.2 3 _ rfl).1) (by decide) hs_h5 i_at i_token i_many a_h_tape e_i_at e_i_token e_i_many e_a_h_tape rr6 hrr6) (va_cwU (x := ⟨"PailRow$Reader", "find", "([Ljava/lang/String;)I"⟩) (owner := "PailRow$Reader") 1 hts gu_X6_84_5 rfl rfl rfl rfl ⟨by decide, by decide, (hd_X6_find.2).2.2⟩ ⟨Nat.le_of_ble_eq_true rfl, Nat.le_of_ble_eq_true rfl⟩) (x_preV hG hR hW hS sh_o.1 rfl) rfl rfl hl.1 rfl (lv_room (Nat.le_of_ble_eq_true rfl)) dX6_isName_46 ⟨Nat.le_refl _, Nat.le_refl _⟩) hS (fun H locs hR hS => ?_)
        refine lv_iconst (v := -1) hx hb dX6_isName_49 li_m1 ?_
        refine lv_icmp_ne (tgt := 72) hx hb dX6_isName_50 (by decide) (fun c7 => ?_) (fun c7 => ?_)
        · have hf := ite_f c7 hf
          exact hj72 () hf _ _ _ hR hS (lv_sub hl [0] rfl)
        · have hf := ite_t c7 hf
          refine lv_aload_n hx hb dX6_isName_53 rfl (lv_at hl 0 rfl) ?_
          refine lv_aload_n hx hb dX6_isName_54 rfl (lv_at hl 0 rfl) ?_
          refine g_getr (b := h) hx hb hts hown hG hR gFx_X6_3_5 sh_o.1 x_o_thisR dX6_isName_55 ?_
          refine g_getr (b := (h + 6)) hx hb hts hown hG hR gFx_X6_94_0 sh_h.1 ((sh_h.2 4 _ rfl).2) dX6_isName_58 ?_
          obtain ⟨rr8, hrr8, hf⟩ := bind_s hf
          refine x0_gor (vx_runU (As := [.ref (h + 6)]) (rest := []) (b := o) ⟨hx, hb, hml, hown, hts⟩ (m6_findY l G K I J X A B Q o h sh_o sh_h x_o_thisR (h + 6) 10 19 ((sh_h.2 4 _ rfl).1) (by decide) hs_h6 i_at i_token i_many a_h_tape e_i_at e_i_token e_i_many e_a_h_tape rr8 hrr8) (va_cwU (x := ⟨"PailRow$Reader", "find", "([Ljava/lang/String;)I"⟩) (owner := "PailRow$Reader") 1 hts gu_X6_84_5 rfl rfl rfl rfl ⟨by decide, by decide, (hd_X6_find.2).2.2⟩ ⟨Nat.le_of_ble_eq_true rfl, Nat.le_of_ble_eq_true rfl⟩) (x_preV hG hR hW hS sh_o.1 rfl) rfl rfl hl.1 rfl (lv_room (Nat.le_of_ble_eq_true rfl)) dX6_isName_61 ⟨Nat.le_refl _, Nat.le_refl _⟩) hS (fun H locs hR hS => ?_)
          refine lv_iconst (v := -1) hx hb dX6_isName_64 li_m1 ?_
          refine lv_icmp_ne (tgt := 72) hx hb dX6_isName_65 (by decide) (fun c9 => ?_) (fun c9 => ?_)
          · have hf := ite_f c9 hf
            exact hj72 () hf _ _ _ hR hS (lv_sub hl [0] rfl)
          · have hf := ite_t c9 hf
            refine lv_iconst (v := 1) hx hb dX6_isName_68 li_1 ?_
            refine lv_goto (tgt := 73) hx hb dX6_isName_69 (by decide) ?_
            obtain rfl := some_i hf
            exact hend _ _ _ _ dX6_isName_73 nz_1 hR hS
noncomputable def f6_wrongY (p1 : Int32) (i_h2_kind : Int32) (i_h2_place : Int32) (i_at : Int32) : Option (Int32 × Int32) :=
  some (p1, i_at)
set_option maxHeartbeats 4000000 in
theorem m6_wrongY (l : Launch) (G : gG) (K : gK) (I : gI) (J : gJ) (X : gX) (A : gI) (B : gJ) (Q : gX) (o : Nat) (h : Nat) (sh_o : Sh K X o 5 rows5) (sh_h : Sh K X h 0 rows0) (sh_h2 : K (h + 2) = some (.inl 1)) (x_o_thisR : X 507 o = some h) (x_h_broken : X 4 h = some (h + 2)) (p1 : Int32) (i_h2_kind : Int32) (i_h2_place : Int32) (i_at : Int32) (e_i_h2_kind : I 106 (h + 2) = i_h2_kind) (e_i_h2_place : I 107 (h + 2) = i_h2_place) (e_i_at : I 502 o = i_at) (out : Int32 × Int32) (hf : f6_wrongY p1 i_h2_kind i_h2_place i_at = some out) : GMet l yX6_wrong cX6_wrong 2 (some (.object "PailRow$Fault")) (0) (0) G [.ref o, .int p1] K I J X A B Q (some (.ref (h + 2))) K (ov I [(106, (h + 2), out.1), (107, (h + 2), out.2)]) J X A B Q 0 0 := by
  refine GMet.of (y := yX6_wrong) rfl (Nat.le_of_ble_eq_true rfl) rfl ?_
  intro p e s m below meth c ls hx hb hr hml hlocks hts hown hname hG hR hl
  have hown : s.vm.findClass RX6 = some m.cls := hown
  have hR : RS G K (ov I [(106, (h + 2), i_h2_kind), (107, (h + 2), i_h2_place)]) J X A B Q s.heap := hR.to (Eq.symm (ov_sc e_i_h2_kind (ov_sc e_i_h2_place rfl))) rfl rfl rfl rfl rfl
  have hS : va_S (gA G) s.heap s.heap [] := va_S.rf
  have hend : ∀ (pc : Nat) (H : Heap) (locs : List Loc) (ls : Array Slot), decode cX6_wrong pc = .ok (.areturn, 1) → RS G K (ov I [(106, (h + 2), out.1), (107, (h + 2), out.2)]) J X A B Q H → va_S (gA G) s.heap H locs → W p l e ({ frames := 0, cells := 0, slots := 0, locals := 0 } : Room) s m ([.ref o, .int p1] : List Value).toArray below meth c H locs 0 0 (MQ below (gQ G (some (.ref (h + 2))) K (ov I [(106, (h + 2), out.1), (107, (h + 2), out.2)]) J X A B Q) ([.ref o, .int p1] : List Value).toArray s 0 0 (gA G)) (F0 m pc ls [.ref (h + 2)]) := fun pc H locs ls hd hR hS => g_aret (v := some (h + 2)) hx hb hr (Or.inl ⟨_, rfl⟩) hlocks hG hR hS rfl hd
  generalize MQ below (gQ G (some (.ref (h + 2))) K (ov I [(106, (h + 2), out.1), (107, (h + 2), out.2)]) J X A B Q) ([.ref o, .int p1] : List Value).toArray s 0 0 (gA G) = Z at hend ⊢
  generalize ([.ref o, .int p1] : List Value).toArray = args at hts hend ⊢
  unfold f6_wrongY at hf
  refine lv_aload_n hx hb dX6_wrong_0 rfl (lv_at hl 0 rfl) ?_
  refine g_getr (b := h) hx hb hts hown hG hR gFx_X6_3_5 sh_o.1 x_o_thisR dX6_wrong_1 ?_
  refine g_getr (b := (h + 2)) hx hb hts hown hG hR gFx_X6_109_0 sh_h.1 x_h_broken dX6_wrong_4 ?_
  refine lv_iload_n hx hb dX6_wrong_7 rfl (lv_at hl 1 rfl) ?_
  refine n_puti (li' := [(106, (h + 2), p1), (107, (h + 2), i_h2_place)]) hx hb hts hown hG hR hS gPi_X6_113_1 sh_h2 0 rfl rfl rfl dX6_wrong_8 (fun H locs hR hS => ?_)
  refine lv_aload_n hx hb dX6_wrong_11 rfl (lv_at hl 0 rfl) ?_
  refine g_getr (b := h) hx hb hts hown hG hR gFx_X6_3_5 sh_o.1 x_o_thisR dX6_wrong_12 ?_
  refine g_getr (b := (h + 2)) hx hb hts hown hG hR gFx_X6_109_0 sh_h.1 x_h_broken dX6_wrong_15 ?_
  refine lv_aload_n hx hb dX6_wrong_18 rfl (lv_at hl 0 rfl) ?_
  refine n_geti (v := i_at) hx hb hts hown hG hR gFi_X6_40_5 sh_o.1 ((congrFun (ov_no rfl) _).trans e_i_at) dX6_wrong_19 ?_
  refine n_puti (li' := [(106, (h + 2), p1), (107, (h + 2), i_at)]) hx hb hts hown hG hR hS gPi_X6_118_1 sh_h2 1 rfl rfl rfl dX6_wrong_22 (fun H locs hR hS => ?_)
  refine lv_aload_n hx hb dX6_wrong_25 rfl (lv_at hl 0 rfl) ?_
  refine g_getr (b := h) hx hb hts hown hG hR gFx_X6_3_5 sh_o.1 x_o_thisR dX6_wrong_26 ?_
  refine g_getr (b := (h + 2)) hx hb hts hown hG hR gFx_X6_109_0 sh_h.1 x_h_broken dX6_wrong_29 ?_
  obtain rfl := some_i hf
  exact hend _ _ _ _ dX6_wrong_32 hR hS
noncomputable def f6_mustY (p1 : Int32) (p2 : Int32) (i_h2_kind : Int32) (i_h2_place : Int32) (i_at : Int32) : Option ((Option Unit) × Int32 × Int32) :=
  if p1 = 0 then
    (f6_wrongY p2 i_h2_kind i_h2_place i_at).bind fun rr2 =>
    some (none, rr2.1, rr2.2)
  else
    some ((some ()), i_h2_kind, i_h2_place)
set_option maxHeartbeats 4000000 in
theorem m6_mustY (l : Launch) (G : gG) (K : gK) (I : gI) (J : gJ) (X : gX) (A : gI) (B : gJ) (Q : gX) (o : Nat) (h : Nat) (sh_o : Sh K X o 5 rows5) (sh_h : Sh K X h 0 rows0) (sh_h2 : K (h + 2) = some (.inl 1)) (x_o_thisR : X 507 o = some h) (x_h_broken : X 4 h = some (h + 2)) (p1 : Int32) (p2 : Int32) (i_h2_kind : Int32) (i_h2_place : Int32) (i_at : Int32) (e_i_h2_kind : I 106 (h + 2) = i_h2_kind) (e_i_h2_place : I 107 (h + 2) = i_h2_place) (e_i_at : I 502 o = i_at) (out : (Option Unit) × Int32 × Int32) (hf : f6_mustY p1 p2 i_h2_kind i_h2_place i_at = some out) : GMetX l yX6_must cX6_must 3 none (1) (21) G [.ref o, .int p1, .int p2] K I J X A B Q (xo "PailRow$Fault" (h + 2) (Option.map (fun _ => none) out.1)) K (ov I [(106, (h + 2), out.2.1), (107, (h + 2), out.2.2)]) J X A B Q 0 0 := by
  refine GMetX.of (y := yX6_must) rfl (Nat.le_of_ble_eq_true rfl) rfl ?_
  intro p e s m below meth c ls hx hb hr hml hlocks hts hown hname ht hG hR hW hl
  have hown : s.vm.findClass RX6 = some m.cls := hown
  have hR : RS G K (ov I [(106, (h + 2), i_h2_kind), (107, (h + 2), i_h2_place)]) J X A B Q s.heap := hR.to (Eq.symm (ov_sc e_i_h2_kind (ov_sc e_i_h2_place rfl))) rfl rfl rfl rfl rfl
  have hS : va_S (gA G) s.heap s.heap [] := va_S.rf
  have hend : ∀ (v : Unit), out.1 = some v → ∀ (pc : Nat) (H : Heap) (locs : List Loc) (ls : Array Slot), decode cX6_must pc = .ok (.return_, 1) → RS G K (ov I [(106, (h + 2), out.2.1), (107, (h + 2), out.2.2)]) J X A B Q H → va_S (gA G) s.heap H locs → W p l e ({ frames := 1, cells := 0, slots := 0, locals := 21 } : Room) s m ([.ref o, .int p1, .int p2] : List Value).toArray below meth c H locs 0 0 (vx_MQ below (xQ G (xo "PailRow$Fault" (h + 2) (Option.map (fun _ => none) out.1)) K (ov I [(106, (h + 2), out.2.1), (107, (h + 2), out.2.2)]) J X A B Q) (xX G (xo "PailRow$Fault" (h + 2) (Option.map (fun _ => none) out.1)) K (ov I [(106, (h + 2), out.2.1), (107, (h + 2), out.2.2)]) J X A B Q) ([.ref o, .int p1, .int p2] : List Value).toArray s 0 0 (gA G)) (F0 m pc ls []) := fun v hv pc H locs ls hd hR hS => x_vret hx hb hr hlocks hG hR hS (by rw [hv]; rfl) hd
  have hthr : out.1 = none → ∀ (pc : Nat) (H : Heap) (locs : List Loc) (ls : Array Slot) (rest : List Value), RS G K (ov I [(106, (h + 2), out.2.1), (107, (h + 2), out.2.2)]) J X A B Q H → va_S (gA G) s.heap H locs → vx_W p l e ({ frames := 1, cells := 0, slots := 0, locals := 21 } : Room) s m ([.ref o, .int p1, .int p2] : List Value).toArray below meth c H locs 0 0 (vx_MQ below (xQ G (xo "PailRow$Fault" (h + 2) (Option.map (fun _ => none) out.1)) K (ov I [(106, (h + 2), out.2.1), (107, (h + 2), out.2.2)]) J X A B Q) (xX G (xo "PailRow$Fault" (h + 2) (Option.map (fun _ => none) out.1)) K (ov I [(106, (h + 2), out.2.1), (107, (h + 2), out.2.2)]) J X A B Q) ([.ref o, .int p1, .int p2] : List Value).toArray s 0 0 (gA G)) (F0 m pc ls rest) (h + 2) := fun hn pc H locs ls rest hR hS => x_out (ci := 1) ht hlocks hG hR hS sh_h2 rfl (by rw [hn]; rfl)
  generalize vx_MQ below (xQ G (xo "PailRow$Fault" (h + 2) (Option.map (fun _ => none) out.1)) K (ov I [(106, (h + 2), out.2.1), (107, (h + 2), out.2.2)]) J X A B Q) (xX G (xo "PailRow$Fault" (h + 2) (Option.map (fun _ => none) out.1)) K (ov I [(106, (h + 2), out.2.1), (107, (h + 2), out.2.2)]) J X A B Q) ([.ref o, .int p1, .int p2] : List Value).toArray s 0 0 (gA G) = Z at hend hthr ⊢
  generalize ([.ref o, .int p1, .int p2] : List Value).toArray = args at hts hend hthr ⊢
  unfold f6_mustY at hf
  refine lv_iload_n hx hb dX6_must_0 rfl (lv_at hl 1 rfl) ?_
  refine lv_if_ne (tgt := 10) hx hb dX6_must_1 (by decide) (fun c1 => ?_) (fun c1 => ?_)
  · have hf := ite_f c1 hf
    obtain rfl := some_i hf
    exact hend _ rfl _ _ _ _ dX6_must_10 hR hS
  · have hf := ite_t c1 hf
    refine lv_aload_n hx hb dX6_must_4 rfl (lv_at hl 0 rfl) ?_
    refine lv_iload_n hx hb dX6_must_5 rfl (lv_at hl 2 rfl) ?_
    obtain ⟨rr2, hrr2, hf⟩ := bind_s hf
    refine g0_cU (rm := (0, 0)) (As := [.int p2]) (rest := []) ⟨hx, hb, hml, hown, hts⟩ hG hR hS (m6_wrongY l G K (ov I [(106, (h + 2), i_h2_kind), (107, (h + 2), i_h2_place)]) J X A B Q o h sh_o sh_h sh_h2 x_o_thisR x_h_broken p2 i_h2_kind i_h2_place i_at (ov_get 0 rfl rfl) (ov_get 1 rfl rfl) ((congrFun (ov_no rfl) _).trans e_i_at) rr2 hrr2) (va_cwU (x := ⟨"PailRow$Reader", "wrong", "(I)LPailRow$Fault;"⟩) (owner := "PailRow$Reader") 1 hts gu_X6_121_5 rfl rfl rfl rfl ⟨by decide, by decide, (hd_X6_wrong.2).2.2⟩ ⟨Nat.le_of_ble_eq_true rfl, Nat.le_of_ble_eq_true rfl⟩) sh_o.1 rfl rfl hl.1 (Nat.le_of_ble_eq_true rfl) dX6_must_6 ⟨Nat.le_refl _, Nat.le_refl _⟩ rfl (fun H locs hR hS => ?_)
    have hR : RS G K (ov I [(106, (h + 2), rr2.1), (107, (h + 2), rr2.2)]) J X A B Q H := hR.to (ov_merge (l := [(106, (h + 2), i_h2_kind), (107, (h + 2), i_h2_place)]) rfl [0, 1] [(106, (h + 2), rr2.1), (107, (h + 2), rr2.2)] rfl rfl) rfl rfl rfl rfl rfl
    refine vx_athrow hx hb dX6_must_9 ?_
    obtain rfl := some_i hf
    exact hthr rfl _ _ _ _ _ hR hS
noncomputable def f6_is_2Y_j20  : Option (Int32) :=
  some (0 : Int32)

noncomputable def f6_is_2Y (p1 : Int32) (i_token : Int32) (i_value : Int32) : Option (Int32) :=
  if i_token = (3 : Int32) then
    if i_value = p1 then
      some (1 : Int32)
    else
      f6_is_2Y_j20
  else
    f6_is_2Y_j20
set_option maxHeartbeats 4000000 in
theorem m6_is_2Y (l : Launch) (G : gG) (K : gK) (I : gI) (J : gJ) (X : gX) (A : gI) (B : gJ) (Q : gX) (o : Nat) (h : Nat) (sh_o : Sh K X o 5 rows5) (sh_h : Sh K X h 0 rows0) (x_o_thisR : X 507 o = some h) (p1 : Int32) (i_token : Int32) (i_value : Int32) (e_i_token : I 503 o = i_token) (e_i_value : I 504 o = i_value) (out : Int32) (hf : f6_is_2Y p1 i_token i_value = some out) : GMet l yX6_is_2 cX6_is_2 2 (some .boolean) (0) (0) G [.ref o, .int p1] K I J X A B Q (some (.int out)) K I J X A B Q 0 0 := by
  refine GMet.of (y := yX6_is_2) rfl (Nat.le_of_ble_eq_true rfl) rfl ?_
  intro p e s m below meth c ls hx hb hr hml hlocks hts hown hname hG hR hl
  have hown : s.vm.findClass RX6 = some m.cls := hown
  have hR : RS G K I J X A B Q s.heap := hR.to rfl rfl rfl rfl rfl rfl
  have hS : va_S (gA G) s.heap s.heap [] := va_S.rf
  have hend : ∀ (pc : Nat) (H : Heap) (locs : List Loc) (ls : Array Slot), decode cX6_is_2 pc = .ok (.ireturn, 1) → narrow .boolean (.int out) = .int out → RS G K I J X A B Q H → va_S (gA G) s.heap H locs → W p l e ({ frames := 0, cells := 0, slots := 0, locals := 0 } : Room) s m ([.ref o, .int p1] : List Value).toArray below meth c H locs 0 0 (MQ below (gQ G (some (.int out)) K I J X A B Q) ([.ref o, .int p1] : List Value).toArray s 0 0 (gA G)) (F0 m pc ls [.int out]) := fun pc H locs ls hd hz hR hS => g_zret hx hb hr hlocks hz hG hR hS rfl hd
  generalize MQ below (gQ G (some (.int out)) K I J X A B Q) ([.ref o, .int p1] : List Value).toArray s 0 0 (gA G) = Z at hend ⊢
  generalize ([.ref o, .int p1] : List Value).toArray = args at hts hend ⊢
  unfold f6_is_2Y at hf
  refine lv_aload_n hx hb dX6_is_2_0 rfl (lv_at hl 0 rfl) ?_
  refine n_geti (v := i_token) hx hb hts hown hG hR gFi_X6_43_5 sh_o.1 e_i_token dX6_is_2_1 ?_
  refine lv_iconst (v := 3) hx hb dX6_is_2_4 li_3 ?_
  have hj20 : ∀ (_ : Unit), f6_is_2Y_j20 = some out → ∀ (H : Heap) (locs : List Loc) (ls : Array Slot), RS G K I J X A B Q H → va_S (gA G) s.heap H locs → lv_has ls 2 [(0, .ref o)] → W p l e ({ frames := 0, cells := 0, slots := 0, locals := 0 } : Room) s m args below meth c H locs 0 0 Z (F0 m 20 ls []) := by
    intro _ hf H locs ls hR hS hl
    unfold f6_is_2Y_j20 at hf
    refine lv_iconst (v := 0) hx hb dX6_is_2_20 li_0 ?_
    obtain rfl := some_i hf
    exact hend _ _ _ _ dX6_is_2_21 nz_0 hR hS
  refine lv_icmp_ne (tgt := 20) hx hb dX6_is_2_5 (by decide) (fun c1 => ?_) (fun c1 => ?_)
  · have hf := ite_f c1 hf
    exact hj20 () hf _ _ _ hR hS (lv_sub hl [0] rfl)
  · have hf := ite_t c1 hf
    refine lv_aload_n hx hb dX6_is_2_8 rfl (lv_at hl 0 rfl) ?_
    refine n_geti (v := i_value) hx hb hts hown hG hR gFi_X6_57_5 sh_o.1 e_i_value dX6_is_2_9 ?_
    refine lv_iload_n hx hb dX6_is_2_12 rfl (lv_at hl 1 rfl) ?_
    refine lv_icmp_ne (tgt := 20) hx hb dX6_is_2_13 (by decide) (fun c2 => ?_) (fun c2 => ?_)
    · have hf := ite_f c2 hf
      exact hj20 () hf _ _ _ hR hS (lv_sub hl [0] rfl)
    · have hf := ite_t c2 hf
      refine lv_iconst (v := 1) hx hb dX6_is_2_16 li_1 ?_
      refine lv_goto (tgt := 21) hx hb dX6_is_2_17 (by decide) ?_
      obtain rfl := some_i hf
      exact hend _ _ _ _ dX6_is_2_21 nz_1 hR hS
noncomputable def f6_signY (p1 : Int32) (i_h_size : Int32) (i_h2_kind : Int32) (i_h2_place : Int32) (i_most : Int32) (i_p : Int32) (i_at : Int32) (i_token : Int32) (i_value : Int32) (i_many : Int32) (j_name : Int64) (a_h_tape : Nat → Int32) : Option ((Option Unit) × Int32 × Int32 × Int32 × Int32 × Int32 × Int32 × Int32 × Int64) :=
  (f6_is_2Y p1 i_token i_value).bind fun rr1 =>
  (f6_mustY rr1 (1 : Int32) i_h2_kind i_h2_place i_at).bind fun rr2 =>
  tr rr2.1 (some (none, rr2.2.1, rr2.2.2, i_p, i_at, i_token, i_value, i_many, j_name)) fun v3 =>
  (f6_nextY i_h_size i_most i_p i_at i_token i_value i_many j_name a_h_tape).bind fun rr4 =>
  some ((some ()), rr2.2.1, rr2.2.2, rr4.1, rr4.2.1, rr4.2.2.1, rr4.2.2.2.1, rr4.2.2.2.2.1, rr4.2.2.2.2.2)
set_option maxHeartbeats 4000000 in
theorem m6_signY (l : Launch) (G : gG) (K : gK) (I : gI) (J : gJ) (X : gX) (A : gI) (B : gJ) (Q : gX) (o : Nat) (h : Nat) (sh_o : Sh K X o 5 rows5) (sh_h : Sh K X h 0 rows0) (sh_h2 : K (h + 2) = some (.inl 1)) (x_o_thisR : X 507 o = some h) (x_h_broken : X 4 h = some (h + 2)) (p1 : Int32) (i_h_size : Int32) (i_h2_kind : Int32) (i_h2_place : Int32) (i_most : Int32) (i_p : Int32) (i_at : Int32) (i_token : Int32) (i_value : Int32) (i_many : Int32) (j_name : Int64) (a_h_tape : Nat → Int32) (e_i_h_size : I 2 h = i_h_size) (e_i_h2_kind : I 106 (h + 2) = i_h2_kind) (e_i_h2_place : I 107 (h + 2) = i_h2_place) (e_i_most : I 500 o = i_most) (e_i_p : I 501 o = i_p) (e_i_at : I 502 o = i_at) (e_i_token : I 503 o = i_token) (e_i_value : I 504 o = i_value) (e_i_many : I 505 o = i_many) (e_j_name : J 506 o = j_name) (e_a_h_tape : A (h + 1) = a_h_tape) (out : (Option Unit) × Int32 × Int32 × Int32 × Int32 × Int32 × Int32 × Int32 × Int64) (hf : f6_signY p1 i_h_size i_h2_kind i_h2_place i_most i_p i_at i_token i_value i_many j_name a_h_tape = some out) : GMetX l yX6_sign cX6_sign 2 none (4) (86) G [.ref o, .int p1] K I J X A B Q (xo "PailRow$Fault" (h + 2) (Option.map (fun _ => none) out.1)) K (ov I [(106, (h + 2), out.2.1), (107, (h + 2), out.2.2.1), (501, o, out.2.2.2.1), (502, o, out.2.2.2.2.1), (503, o, out.2.2.2.2.2.1), (504, o, out.2.2.2.2.2.2.1), (505, o, out.2.2.2.2.2.2.2.1)]) (ov J [(506, o, out.2.2.2.2.2.2.2.2)]) X A B Q 0 0 := by
  refine GMetX.of (y := yX6_sign) rfl (Nat.le_of_ble_eq_true rfl) rfl ?_
  intro p e s m below meth c ls hx hb hr hml hlocks hts hown hname ht hG hR hW hl
  have hown : s.vm.findClass RX6 = some m.cls := hown
  have k_a_h_tape : K (h + 1) = some (.inr (2, 740)) := (sh_h.2 0 _ rfl).1
  have hR : RS G K (ov I [(106, (h + 2), i_h2_kind), (107, (h + 2), i_h2_place), (501, o, i_p), (502, o, i_at), (503, o, i_token), (504, o, i_value), (505, o, i_many)]) (ov J [(506, o, j_name)]) X A B Q s.heap := hR.to (Eq.symm (ov_sc e_i_h2_kind (ov_sc e_i_h2_place (ov_sc e_i_p (ov_sc e_i_at (ov_sc e_i_token (ov_sc e_i_value (ov_sc e_i_many rfl)))))))) (Eq.symm (ov_sc e_j_name rfl)) rfl rfl rfl rfl
  have hS : va_S (gA G) s.heap s.heap [] := va_S.rf
  have hend : ∀ (v : Unit), out.1 = some v → ∀ (pc : Nat) (H : Heap) (locs : List Loc) (ls : Array Slot), decode cX6_sign pc = .ok (.return_, 1) → RS G K (ov I [(106, (h + 2), out.2.1), (107, (h + 2), out.2.2.1), (501, o, out.2.2.2.1), (502, o, out.2.2.2.2.1), (503, o, out.2.2.2.2.2.1), (504, o, out.2.2.2.2.2.2.1), (505, o, out.2.2.2.2.2.2.2.1)]) (ov J [(506, o, out.2.2.2.2.2.2.2.2)]) X A B Q H → va_S (gA G) s.heap H locs → W p l e ({ frames := 4, cells := 0, slots := 0, locals := 86 } : Room) s m ([.ref o, .int p1] : List Value).toArray below meth c H locs 0 0 (vx_MQ below (xQ G (xo "PailRow$Fault" (h + 2) (Option.map (fun _ => none) out.1)) K (ov I [(106, (h + 2), out.2.1), (107, (h + 2), out.2.2.1), (501, o, out.2.2.2.1), (502, o, out.2.2.2.2.1), (503, o, out.2.2.2.2.2.1), (504, o, out.2.2.2.2.2.2.1), (505, o, out.2.2.2.2.2.2.2.1)]) (ov J [(506, o, out.2.2.2.2.2.2.2.2)]) X A B Q) (xX G (xo "PailRow$Fault" (h + 2) (Option.map (fun _ => none) out.1)) K (ov I [(106, (h + 2), out.2.1), (107, (h + 2), out.2.2.1), (501, o, out.2.2.2.1), (502, o, out.2.2.2.2.1), (503, o, out.2.2.2.2.2.1), (504, o, out.2.2.2.2.2.2.1), (505, o, out.2.2.2.2.2.2.2.1)]) (ov J [(506, o, out.2.2.2.2.2.2.2.2)]) X A B Q) ([.ref o, .int p1] : List Value).toArray s 0 0 (gA G)) (F0 m pc ls []) := fun v hv pc H locs ls hd hR hS => x_vret hx hb hr hlocks hG hR hS (by rw [hv]; rfl) hd
  have hthr : out.1 = none → ∀ (pc : Nat) (H : Heap) (locs : List Loc) (ls : Array Slot) (rest : List Value), RS G K (ov I [(106, (h + 2), out.2.1), (107, (h + 2), out.2.2.1), (501, o, out.2.2.2.1), (502, o, out.2.2.2.2.1), (503, o, out.2.2.2.2.2.1), (504, o, out.2.2.2.2.2.2.1), (505, o, out.2.2.2.2.2.2.2.1)]) (ov J [(506, o, out.2.2.2.2.2.2.2.2)]) X A B Q H → va_S (gA G) s.heap H locs → vx_W p l e ({ frames := 4, cells := 0, slots := 0, locals := 86 } : Room) s m ([.ref o, .int p1] : List Value).toArray below meth c H locs 0 0 (vx_MQ below (xQ G (xo "PailRow$Fault" (h + 2) (Option.map (fun _ => none) out.1)) K (ov I [(106, (h + 2), out.2.1), (107, (h + 2), out.2.2.1), (501, o, out.2.2.2.1), (502, o, out.2.2.2.2.1), (503, o, out.2.2.2.2.2.1), (504, o, out.2.2.2.2.2.2.1), (505, o, out.2.2.2.2.2.2.2.1)]) (ov J [(506, o, out.2.2.2.2.2.2.2.2)]) X A B Q) (xX G (xo "PailRow$Fault" (h + 2) (Option.map (fun _ => none) out.1)) K (ov I [(106, (h + 2), out.2.1), (107, (h + 2), out.2.2.1), (501, o, out.2.2.2.1), (502, o, out.2.2.2.2.1), (503, o, out.2.2.2.2.2.1), (504, o, out.2.2.2.2.2.2.1), (505, o, out.2.2.2.2.2.2.2.1)]) (ov J [(506, o, out.2.2.2.2.2.2.2.2)]) X A B Q) ([.ref o, .int p1] : List Value).toArray s 0 0 (gA G)) (F0 m pc ls rest) (h + 2) := fun hn pc H locs ls rest hR hS => x_out (ci := 1) ht hlocks hG hR hS sh_h2 rfl (by rw [hn]; rfl)
  generalize vx_MQ below (xQ G (xo "PailRow$Fault" (h + 2) (Option.map (fun _ => none) out.1)) K (ov I [(106, (h + 2), out.2.1), (107, (h + 2), out.2.2.1), (501, o, out.2.2.2.1), (502, o, out.2.2.2.2.1), (503, o, out.2.2.2.2.2.1), (504, o, out.2.2.2.2.2.2.1), (505, o, out.2.2.2.2.2.2.2.1)]) (ov J [(506, o, out.2.2.2.2.2.2.2.2)]) X A B Q) (xX G (xo "PailRow$Fault" (h + 2) (Option.map (fun _ => none) out.1)) K (ov I [(106, (h + 2), out.2.1), (107, (h + 2), out.2.2.1), (501, o, out.2.2.2.1), (502, o, out.2.2.2.2.1), (503, o, out.2.2.2.2.2.1), (504, o, out.2.2.2.2.2.2.1), (505, o, out.2.2.2.2.2.2.2.1)]) (ov J [(506, o, out.2.2.2.2.2.2.2.2)]) X A B Q) ([.ref o, .int p1] : List Value).toArray s 0 0 (gA G) = Z at hend hthr ⊢
  generalize ([.ref o, .int p1] : List Value).toArray = args at hts hend hthr ⊢
  unfold f6_signY at hf
  refine lv_aload_n hx hb dX6_sign_0 rfl (lv_at hl 0 rfl) ?_
  refine lv_aload_n hx hb dX6_sign_1 rfl (lv_at hl 0 rfl) ?_
  refine lv_iload_n hx hb dX6_sign_2 rfl (lv_at hl 1 rfl) ?_
  obtain ⟨rr1, hrr1, hf⟩ := bind_s hf
  refine g0_cU (rm := (0, 0)) (As := [.int p1]) (rest := [.ref o]) ⟨hx, hb, hml, hown, hts⟩ hG hR hS (m6_is_2Y l G K (ov I [(106, (h + 2), i_h2_kind), (107, (h + 2), i_h2_place), (501, o, i_p), (502, o, i_at), (503, o, i_token), (504, o, i_value), (505, o, i_many)]) (ov J [(506, o, j_name)]) X A B Q o h sh_o sh_h x_o_thisR p1 i_token i_value (ov_get 4 rfl rfl) (ov_get 5 rfl rfl) rr1 hrr1) (va_cwU (x := ⟨"PailRow$Reader", "is", "(I)Z"⟩) (owner := "PailRow$Reader") 1 hts gu_X6_125_5 rfl rfl rfl rfl ⟨by decide, by decide, (hd_X6_is_2.2).2.2⟩ ⟨Nat.le_of_ble_eq_true rfl, Nat.le_of_ble_eq_true rfl⟩) sh_o.1 rfl rfl hl.1 (Nat.le_of_ble_eq_true rfl) dX6_sign_3 ⟨Nat.le_refl _, Nat.le_refl _⟩ rfl (fun H locs hR hS => ?_)
  refine lv_iconst (v := 1) hx hb dX6_sign_6 li_1 ?_
  obtain ⟨rr2, hrr2, hf⟩ := bind_s hf
  refine x0_gou (vx_runU (As := [.int rr1, .int (1 : Int32)]) (rest := []) (b := o) ⟨hx, hb, hml, hown, hts⟩ (m6_mustY l G K (ov I [(106, (h + 2), i_h2_kind), (107, (h + 2), i_h2_place), (501, o, i_p), (502, o, i_at), (503, o, i_token), (504, o, i_value), (505, o, i_many)]) (ov J [(506, o, j_name)]) X A B Q o h sh_o sh_h sh_h2 x_o_thisR x_h_broken rr1 (1 : Int32) i_h2_kind i_h2_place i_at (ov_get 0 rfl rfl) (ov_get 1 rfl rfl) (ov_get 3 rfl rfl) rr2 hrr2) (va_cwU (x := ⟨"PailRow$Reader", "must", "(ZI)V"⟩) (owner := "PailRow$Reader") 2 hts gu_X6_127_5 rfl rfl rfl rfl ⟨by decide, by decide, (hd_X6_must.2).2.2⟩ ⟨Nat.le_of_ble_eq_true rfl, Nat.le_of_ble_eq_true rfl⟩) (x_preV hG hR hW hS sh_o.1 rfl) rfl rfl hl.1 rfl (lv_room (Nat.le_of_ble_eq_true rfl)) dX6_sign_7 ⟨Nat.le_refl _, Nat.le_refl _⟩) hS (fun H locs hnv3 hR hS => ?_) (fun v3 H locs hvv3 hR hS => ?_)
  · have hf := tr_n hnv3 hf
    have hR : RS G K (ov I [(106, (h + 2), rr2.2.1), (107, (h + 2), rr2.2.2), (501, o, i_p), (502, o, i_at), (503, o, i_token), (504, o, i_value), (505, o, i_many)]) (ov J [(506, o, j_name)]) X A B Q H := hR.to (ov_merge (l := [(106, (h + 2), i_h2_kind), (107, (h + 2), i_h2_place), (501, o, i_p), (502, o, i_at), (503, o, i_token), (504, o, i_value), (505, o, i_many)]) rfl [0, 1] [(106, (h + 2), rr2.2.1), (107, (h + 2), rr2.2.2)] rfl rfl) rfl rfl rfl rfl rfl
    obtain rfl := some_i hf
    exact hthr rfl _ _ _ _ _ hR hS
  have hf := tr_s hvv3 hf
  have hR : RS G K (ov I [(106, (h + 2), rr2.2.1), (107, (h + 2), rr2.2.2), (501, o, i_p), (502, o, i_at), (503, o, i_token), (504, o, i_value), (505, o, i_many)]) (ov J [(506, o, j_name)]) X A B Q H := hR.to (ov_merge (l := [(106, (h + 2), i_h2_kind), (107, (h + 2), i_h2_place), (501, o, i_p), (502, o, i_at), (503, o, i_token), (504, o, i_value), (505, o, i_many)]) rfl [0, 1] [(106, (h + 2), rr2.2.1), (107, (h + 2), rr2.2.2)] rfl rfl) rfl rfl rfl rfl rfl
  refine lv_aload_n hx hb dX6_sign_10 rfl (lv_at hl 0 rfl) ?_
  obtain ⟨rr4, hrr4, hf⟩ := bind_s hf
  refine g0_cUv (rm := (3, 65)) (As := []) (rest := []) ⟨hx, hb, hml, hown, hts⟩ hG hR hS (m6_nextY l G K (ov I [(106, (h + 2), rr2.2.1), (107, (h + 2), rr2.2.2), (501, o, i_p), (502, o, i_at), (503, o, i_token), (504, o, i_value), (505, o, i_many)]) (ov J [(506, o, j_name)]) X A B Q o h sh_o sh_h x_o_thisR i_h_size i_most i_p i_at i_token i_value i_many j_name a_h_tape ((congrFun (ov_no rfl) _).trans e_i_h_size) ((congrFun (ov_no rfl) _).trans e_i_most) (ov_get 2 rfl rfl) (ov_get 3 rfl rfl) (ov_get 4 rfl rfl) (ov_get 5 rfl rfl) (ov_get 6 rfl rfl) (ov_get 0 rfl rfl) e_a_h_tape rr4 hrr4) (va_cwU (x := ⟨"PailRow$Reader", "next", "()V"⟩) (owner := "PailRow$Reader") 0 hts gu_X6_22_5 rfl rfl rfl rfl ⟨by decide, by decide, (hd_X6_next.2).2.2⟩ ⟨Nat.le_of_ble_eq_true rfl, Nat.le_of_ble_eq_true rfl⟩) sh_o.1 rfl rfl hl.1 (Nat.le_of_ble_eq_true rfl) dX6_sign_11 ⟨Nat.le_refl _, Nat.le_refl _⟩ rfl (fun H locs hR hS => ?_)
  have hR : RS G K (ov I [(106, (h + 2), rr2.2.1), (107, (h + 2), rr2.2.2), (501, o, rr4.1), (502, o, rr4.2.1), (503, o, rr4.2.2.1), (504, o, rr4.2.2.2.1), (505, o, rr4.2.2.2.2.1)]) (ov J [(506, o, rr4.2.2.2.2.2)]) X A B Q H := hR.to (ov_merge (l := [(106, (h + 2), rr2.2.1), (107, (h + 2), rr2.2.2), (501, o, i_p), (502, o, i_at), (503, o, i_token), (504, o, i_value), (505, o, i_many)]) rfl [2, 3, 4, 5, 6] [(501, o, rr4.1), (502, o, rr4.2.1), (503, o, rr4.2.2.1), (504, o, rr4.2.2.2.1), (505, o, rr4.2.2.2.2.1)] rfl rfl) (ov_merge (l := [(506, o, j_name)]) rfl [0] [(506, o, rr4.2.2.2.2.2)] rfl rfl) rfl rfl rfl rfl
  obtain rfl := some_i hf
  exact hend _ rfl _ _ _ _ dX6_sign_14 hR hS
noncomputable def f6_numberY_j14 (p1 : Int32) (p2 : Int32) (i_h_size : Int32) (i_h2_kind : Int32) (i_h2_place : Int32) (i_most : Int32) (i_p : Int32) (i_at : Int32) (i_token : Int32) (i_value : Int32) (i_many : Int32) (j_name : Int64) (a_h_tape : Nat → Int32) (j14_s0 : Int32) : Option ((Option Int32) × Int32 × Int32 × Int32 × Int32 × Int32 × Int32 × Int32 × Int64) :=
  (f6_mustY j14_s0 (1 : Int32) i_h2_kind i_h2_place i_at).bind fun rr1 =>
  tr rr1.1 (some (none, rr1.2.1, rr1.2.2, i_p, i_at, i_token, i_value, i_many, j_name)) fun v2 =>
  (f1_isIn i_value p1 p2).bind fun rr3 =>
  (f6_mustY rr3 (2 : Int32) rr1.2.1 rr1.2.2 i_at).bind fun rr4 =>
  tr rr4.1 (some (none, rr4.2.1, rr4.2.2, i_p, i_at, i_token, i_value, i_many, j_name)) fun v5 =>
  (f6_nextY i_h_size i_most i_p i_at i_token i_value i_many j_name a_h_tape).bind fun rr6 =>
  some ((some i_value), rr4.2.1, rr4.2.2, rr6.1, rr6.2.1, rr6.2.2.1, rr6.2.2.2.1, rr6.2.2.2.2.1, rr6.2.2.2.2.2)

noncomputable def f6_numberY (p1 : Int32) (p2 : Int32) (i_h_size : Int32) (i_h2_kind : Int32) (i_h2_place : Int32) (i_most : Int32) (i_p : Int32) (i_at : Int32) (i_token : Int32) (i_value : Int32) (i_many : Int32) (j_name : Int64) (a_h_tape : Nat → Int32) : Option ((Option Int32) × Int32 × Int32 × Int32 × Int32 × Int32 × Int32 × Int32 × Int64) :=
  if i_token = (2 : Int32) then
    f6_numberY_j14 p1 p2 i_h_size i_h2_kind i_h2_place i_most i_p i_at i_token i_value i_many j_name a_h_tape (1 : Int32)
  else
    f6_numberY_j14 p1 p2 i_h_size i_h2_kind i_h2_place i_most i_p i_at i_token i_value i_many j_name a_h_tape (0 : Int32)
set_option maxHeartbeats 4000000 in
theorem m6_numberY (l : Launch) (G : gG) (K : gK) (I : gI) (J : gJ) (X : gX) (A : gI) (B : gJ) (Q : gX) (o : Nat) (h : Nat) (sh_o : Sh K X o 5 rows5) (sh_h : Sh K X h 0 rows0) (sh_h2 : K (h + 2) = some (.inl 1)) (x_o_thisR : X 507 o = some h) (x_h_broken : X 4 h = some (h + 2)) (p1 : Int32) (p2 : Int32) (i_h_size : Int32) (i_h2_kind : Int32) (i_h2_place : Int32) (i_most : Int32) (i_p : Int32) (i_at : Int32) (i_token : Int32) (i_value : Int32) (i_many : Int32) (j_name : Int64) (a_h_tape : Nat → Int32) (e_i_h_size : I 2 h = i_h_size) (e_i_h2_kind : I 106 (h + 2) = i_h2_kind) (e_i_h2_place : I 107 (h + 2) = i_h2_place) (e_i_most : I 500 o = i_most) (e_i_p : I 501 o = i_p) (e_i_at : I 502 o = i_at) (e_i_token : I 503 o = i_token) (e_i_value : I 504 o = i_value) (e_i_many : I 505 o = i_many) (e_j_name : J 506 o = j_name) (e_a_h_tape : A (h + 1) = a_h_tape) (out : (Option Int32) × Int32 × Int32 × Int32 × Int32 × Int32 × Int32 × Int32 × Int64) (hf : f6_numberY p1 p2 i_h_size i_h2_kind i_h2_place i_most i_p i_at i_token i_value i_many j_name a_h_tape = some out) : GMetX l yX6_number cX6_number 4 (some .int) (4) (86) G [.ref o, .int p1, .int p2] K I J X A B Q (xo "PailRow$Fault" (h + 2) (Option.map (fun v => some (.int v)) out.1)) K (ov I [(106, (h + 2), out.2.1), (107, (h + 2), out.2.2.1), (501, o, out.2.2.2.1), (502, o, out.2.2.2.2.1), (503, o, out.2.2.2.2.2.1), (504, o, out.2.2.2.2.2.2.1), (505, o, out.2.2.2.2.2.2.2.1)]) (ov J [(506, o, out.2.2.2.2.2.2.2.2)]) X A B Q 0 0 := by
  refine GMetX.of (y := yX6_number) rfl (Nat.le_of_ble_eq_true rfl) rfl ?_
  intro p e s m below meth c ls hx hb hr hml hlocks hts hown hname ht hG hR hW hl
  have hown : s.vm.findClass RX6 = some m.cls := hown
  have k_a_h_tape : K (h + 1) = some (.inr (2, 740)) := (sh_h.2 0 _ rfl).1
  have hR : RS G K (ov I [(106, (h + 2), i_h2_kind), (107, (h + 2), i_h2_place), (501, o, i_p), (502, o, i_at), (503, o, i_token), (504, o, i_value), (505, o, i_many)]) (ov J [(506, o, j_name)]) X A B Q s.heap := hR.to (Eq.symm (ov_sc e_i_h2_kind (ov_sc e_i_h2_place (ov_sc e_i_p (ov_sc e_i_at (ov_sc e_i_token (ov_sc e_i_value (ov_sc e_i_many rfl)))))))) (Eq.symm (ov_sc e_j_name rfl)) rfl rfl rfl rfl
  have hS : va_S (gA G) s.heap s.heap [] := va_S.rf
  have hend : ∀ (v : Int32), out.1 = some v → ∀ (pc : Nat) (H : Heap) (locs : List Loc) (ls : Array Slot), decode cX6_number pc = .ok (.ireturn, 1) → RS G K (ov I [(106, (h + 2), out.2.1), (107, (h + 2), out.2.2.1), (501, o, out.2.2.2.1), (502, o, out.2.2.2.2.1), (503, o, out.2.2.2.2.2.1), (504, o, out.2.2.2.2.2.2.1), (505, o, out.2.2.2.2.2.2.2.1)]) (ov J [(506, o, out.2.2.2.2.2.2.2.2)]) X A B Q H → va_S (gA G) s.heap H locs → W p l e ({ frames := 4, cells := 0, slots := 0, locals := 86 } : Room) s m ([.ref o, .int p1, .int p2] : List Value).toArray below meth c H locs 0 0 (vx_MQ below (xQ G (xo "PailRow$Fault" (h + 2) (Option.map (fun v => some (.int v)) out.1)) K (ov I [(106, (h + 2), out.2.1), (107, (h + 2), out.2.2.1), (501, o, out.2.2.2.1), (502, o, out.2.2.2.2.1), (503, o, out.2.2.2.2.2.1), (504, o, out.2.2.2.2.2.2.1), (505, o, out.2.2.2.2.2.2.2.1)]) (ov J [(506, o, out.2.2.2.2.2.2.2.2)]) X A B Q) (xX G (xo "PailRow$Fault" (h + 2) (Option.map (fun v => some (.int v)) out.1)) K (ov I [(106, (h + 2), out.2.1), (107, (h + 2), out.2.2.1), (501, o, out.2.2.2.1), (502, o, out.2.2.2.2.1), (503, o, out.2.2.2.2.2.1), (504, o, out.2.2.2.2.2.2.1), (505, o, out.2.2.2.2.2.2.2.1)]) (ov J [(506, o, out.2.2.2.2.2.2.2.2)]) X A B Q) ([.ref o, .int p1, .int p2] : List Value).toArray s 0 0 (gA G)) (F0 m pc ls [.int v]) := fun v hv pc H locs ls hd hR hS => x_nret hx hb hr rfl hlocks hG hR hS (by rw [hv]; rfl) hd
  have hthr : out.1 = none → ∀ (pc : Nat) (H : Heap) (locs : List Loc) (ls : Array Slot) (rest : List Value), RS G K (ov I [(106, (h + 2), out.2.1), (107, (h + 2), out.2.2.1), (501, o, out.2.2.2.1), (502, o, out.2.2.2.2.1), (503, o, out.2.2.2.2.2.1), (504, o, out.2.2.2.2.2.2.1), (505, o, out.2.2.2.2.2.2.2.1)]) (ov J [(506, o, out.2.2.2.2.2.2.2.2)]) X A B Q H → va_S (gA G) s.heap H locs → vx_W p l e ({ frames := 4, cells := 0, slots := 0, locals := 86 } : Room) s m ([.ref o, .int p1, .int p2] : List Value).toArray below meth c H locs 0 0 (vx_MQ below (xQ G (xo "PailRow$Fault" (h + 2) (Option.map (fun v => some (.int v)) out.1)) K (ov I [(106, (h + 2), out.2.1), (107, (h + 2), out.2.2.1), (501, o, out.2.2.2.1), (502, o, out.2.2.2.2.1), (503, o, out.2.2.2.2.2.1), (504, o, out.2.2.2.2.2.2.1), (505, o, out.2.2.2.2.2.2.2.1)]) (ov J [(506, o, out.2.2.2.2.2.2.2.2)]) X A B Q) (xX G (xo "PailRow$Fault" (h + 2) (Option.map (fun v => some (.int v)) out.1)) K (ov I [(106, (h + 2), out.2.1), (107, (h + 2), out.2.2.1), (501, o, out.2.2.2.1), (502, o, out.2.2.2.2.1), (503, o, out.2.2.2.2.2.1), (504, o, out.2.2.2.2.2.2.1), (505, o, out.2.2.2.2.2.2.2.1)]) (ov J [(506, o, out.2.2.2.2.2.2.2.2)]) X A B Q) ([.ref o, .int p1, .int p2] : List Value).toArray s 0 0 (gA G)) (F0 m pc ls rest) (h + 2) := fun hn pc H locs ls rest hR hS => x_out (ci := 1) ht hlocks hG hR hS sh_h2 rfl (by rw [hn]; rfl)
  generalize vx_MQ below (xQ G (xo "PailRow$Fault" (h + 2) (Option.map (fun v => some (.int v)) out.1)) K (ov I [(106, (h + 2), out.2.1), (107, (h + 2), out.2.2.1), (501, o, out.2.2.2.1), (502, o, out.2.2.2.2.1), (503, o, out.2.2.2.2.2.1), (504, o, out.2.2.2.2.2.2.1), (505, o, out.2.2.2.2.2.2.2.1)]) (ov J [(506, o, out.2.2.2.2.2.2.2.2)]) X A B Q) (xX G (xo "PailRow$Fault" (h + 2) (Option.map (fun v => some (.int v)) out.1)) K (ov I [(106, (h + 2), out.2.1), (107, (h + 2), out.2.2.1), (501, o, out.2.2.2.1), (502, o, out.2.2.2.2.1), (503, o, out.2.2.2.2.2.1), (504, o, out.2.2.2.2.2.2.1), (505, o, out.2.2.2.2.2.2.2.1)]) (ov J [(506, o, out.2.2.2.2.2.2.2.2)]) X A B Q) ([.ref o, .int p1, .int p2] : List Value).toArray s 0 0 (gA G) = Z at hend hthr ⊢
  generalize ([.ref o, .int p1, .int p2] : List Value).toArray = args at hts hend hthr ⊢
  unfold f6_numberY at hf
  refine lv_aload_n hx hb dX6_number_0 rfl (lv_at hl 0 rfl) ?_
  refine lv_aload_n hx hb dX6_number_1 rfl (lv_at hl 0 rfl) ?_
  refine n_geti (v := i_token) hx hb hts hown hG hR gFi_X6_43_5 sh_o.1 (ov_get 4 rfl rfl) dX6_number_2 ?_
  refine lv_iconst (v := 2) hx hb dX6_number_5 li_2 ?_
  have hj14 : ∀ (j14_s0 : Int32), f6_numberY_j14 p1 p2 i_h_size i_h2_kind i_h2_place i_most i_p i_at i_token i_value i_many j_name a_h_tape j14_s0 = some out → ∀ (H : Heap) (locs : List Loc) (ls : Array Slot), RS G K (ov I [(106, (h + 2), i_h2_kind), (107, (h + 2), i_h2_place), (501, o, i_p), (502, o, i_at), (503, o, i_token), (504, o, i_value), (505, o, i_many)]) (ov J [(506, o, j_name)]) X A B Q H → va_S (gA G) s.heap H locs → lv_has ls 4 [(0, .ref o), (1, .int p1), (2, .int p2)] → W p l e ({ frames := 4, cells := 0, slots := 0, locals := 86 } : Room) s m args below meth c H locs 0 0 Z (F0 m 14 ls [.int j14_s0, .ref o]) := by
    intro j14_s0 hf H locs ls hR hS hl
    unfold f6_numberY_j14 at hf
    refine lv_iconst (v := 1) hx hb dX6_number_14 li_1 ?_
    obtain ⟨rr1, hrr1, hf⟩ := bind_s hf
    refine x0_gou (vx_runU (As := [.int j14_s0, .int (1 : Int32)]) (rest := []) (b := o) ⟨hx, hb, hml, hown, hts⟩ (m6_mustY l G K (ov I [(106, (h + 2), i_h2_kind), (107, (h + 2), i_h2_place), (501, o, i_p), (502, o, i_at), (503, o, i_token), (504, o, i_value), (505, o, i_many)]) (ov J [(506, o, j_name)]) X A B Q o h sh_o sh_h sh_h2 x_o_thisR x_h_broken j14_s0 (1 : Int32) i_h2_kind i_h2_place i_at (ov_get 0 rfl rfl) (ov_get 1 rfl rfl) (ov_get 3 rfl rfl) rr1 hrr1) (va_cwU (x := ⟨"PailRow$Reader", "must", "(ZI)V"⟩) (owner := "PailRow$Reader") 2 hts gu_X6_127_5 rfl rfl rfl rfl ⟨by decide, by decide, (hd_X6_must.2).2.2⟩ ⟨Nat.le_of_ble_eq_true rfl, Nat.le_of_ble_eq_true rfl⟩) (x_preV hG hR hW hS sh_o.1 rfl) rfl rfl hl.1 rfl (lv_room (Nat.le_of_ble_eq_true rfl)) dX6_number_15 ⟨Nat.le_refl _, Nat.le_refl _⟩) hS (fun H locs hnv2 hR hS => ?_) (fun v2 H locs hvv2 hR hS => ?_)
    · have hf := tr_n hnv2 hf
      have hR : RS G K (ov I [(106, (h + 2), rr1.2.1), (107, (h + 2), rr1.2.2), (501, o, i_p), (502, o, i_at), (503, o, i_token), (504, o, i_value), (505, o, i_many)]) (ov J [(506, o, j_name)]) X A B Q H := hR.to (ov_merge (l := [(106, (h + 2), i_h2_kind), (107, (h + 2), i_h2_place), (501, o, i_p), (502, o, i_at), (503, o, i_token), (504, o, i_value), (505, o, i_many)]) rfl [0, 1] [(106, (h + 2), rr1.2.1), (107, (h + 2), rr1.2.2)] rfl rfl) rfl rfl rfl rfl rfl
      obtain rfl := some_i hf
      exact hthr rfl _ _ _ _ _ hR hS
    have hf := tr_s hvv2 hf
    have hR : RS G K (ov I [(106, (h + 2), rr1.2.1), (107, (h + 2), rr1.2.2), (501, o, i_p), (502, o, i_at), (503, o, i_token), (504, o, i_value), (505, o, i_many)]) (ov J [(506, o, j_name)]) X A B Q H := hR.to (ov_merge (l := [(106, (h + 2), i_h2_kind), (107, (h + 2), i_h2_place), (501, o, i_p), (502, o, i_at), (503, o, i_token), (504, o, i_value), (505, o, i_many)]) rfl [0, 1] [(106, (h + 2), rr1.2.1), (107, (h + 2), rr1.2.2)] rfl rfl) rfl rfl rfl rfl rfl
    refine lv_aload_n hx hb dX6_number_18 rfl (lv_at hl 0 rfl) ?_
    refine lv_aload_n hx hb dX6_number_19 rfl (lv_at hl 0 rfl) ?_
    refine n_geti (v := i_value) hx hb hts hown hG hR gFi_X6_57_5 sh_o.1 (ov_get 5 rfl rfl) dX6_number_20 ?_
    refine lv_iload_n hx hb dX6_number_23 rfl (lv_at hl 1 rfl) ?_
    refine lv_iload_n hx hb dX6_number_24 rfl (lv_at hl 2 rfl) ?_
    obtain ⟨rr3, hrr3, hf⟩ := bind_s hf
    refine g0_cSN (rm := (0, 0)) (As := [.int i_value, .int p1, .int p2]) (rest := [.ref o]) ⟨hx, hb, hml, hown, hts⟩ hG hR hS (m1_isIn l G K (ov I [(106, (h + 2), rr1.2.1), (107, (h + 2), rr1.2.2), (501, o, i_p), (502, o, i_at), (503, o, i_token), (504, o, i_value), (505, o, i_many)]) (ov J [(506, o, j_name)]) X A B Q i_value p1 p2 rr3 hrr3) ⟨va_cnB 3 hts (lw_meth q862) rfl rfl rfl (hG.2 _ q860 rfl) (hts _ q103) hd_X1_isIn.2 ⟨Nat.le_of_ble_eq_true rfl, Nat.le_of_ble_eq_true rfl⟩, hts _ q861, trivial⟩ rfl hl.1 (Nat.le_of_ble_eq_true rfl) dX6_number_25 ⟨Nat.le_refl _, Nat.le_refl _⟩ rfl (fun H locs hR hS => ?_)
    refine lv_iconst (v := 2) hx hb dX6_number_28 li_2 ?_
    obtain ⟨rr4, hrr4, hf⟩ := bind_s hf
    refine x0_gou (vx_runU (As := [.int rr3, .int (2 : Int32)]) (rest := []) (b := o) ⟨hx, hb, hml, hown, hts⟩ (m6_mustY l G K (ov I [(106, (h + 2), rr1.2.1), (107, (h + 2), rr1.2.2), (501, o, i_p), (502, o, i_at), (503, o, i_token), (504, o, i_value), (505, o, i_many)]) (ov J [(506, o, j_name)]) X A B Q o h sh_o sh_h sh_h2 x_o_thisR x_h_broken rr3 (2 : Int32) rr1.2.1 rr1.2.2 i_at (ov_get 0 rfl rfl) (ov_get 1 rfl rfl) (ov_get 3 rfl rfl) rr4 hrr4) (va_cwU (x := ⟨"PailRow$Reader", "must", "(ZI)V"⟩) (owner := "PailRow$Reader") 2 hts gu_X6_127_5 rfl rfl rfl rfl ⟨by decide, by decide, (hd_X6_must.2).2.2⟩ ⟨Nat.le_of_ble_eq_true rfl, Nat.le_of_ble_eq_true rfl⟩) (x_preV hG hR hW hS sh_o.1 rfl) rfl rfl hl.1 rfl (lv_room (Nat.le_of_ble_eq_true rfl)) dX6_number_29 ⟨Nat.le_refl _, Nat.le_refl _⟩) hS (fun H locs hnv5 hR hS => ?_) (fun v5 H locs hvv5 hR hS => ?_)
    · have hf := tr_n hnv5 hf
      have hR : RS G K (ov I [(106, (h + 2), rr4.2.1), (107, (h + 2), rr4.2.2), (501, o, i_p), (502, o, i_at), (503, o, i_token), (504, o, i_value), (505, o, i_many)]) (ov J [(506, o, j_name)]) X A B Q H := hR.to (ov_merge (l := [(106, (h + 2), rr1.2.1), (107, (h + 2), rr1.2.2), (501, o, i_p), (502, o, i_at), (503, o, i_token), (504, o, i_value), (505, o, i_many)]) rfl [0, 1] [(106, (h + 2), rr4.2.1), (107, (h + 2), rr4.2.2)] rfl rfl) rfl rfl rfl rfl rfl
      obtain rfl := some_i hf
      exact hthr rfl _ _ _ _ _ hR hS
    have hf := tr_s hvv5 hf
    have hR : RS G K (ov I [(106, (h + 2), rr4.2.1), (107, (h + 2), rr4.2.2), (501, o, i_p), (502, o, i_at), (503, o, i_token), (504, o, i_value), (505, o, i_many)]) (ov J [(506, o, j_name)]) X A B Q H := hR.to (ov_merge (l := [(106, (h + 2), rr1.2.1), (107, (h + 2), rr1.2.2), (501, o, i_p), (502, o, i_at), (503, o, i_token), (504, o, i_value), (505, o, i_many)]) rfl [0, 1] [(106, (h + 2), rr4.2.1), (107, (h + 2), rr4.2.2)] rfl rfl) rfl rfl rfl rfl rfl
    refine lv_aload_n hx hb dX6_number_32 rfl (lv_at hl 0 rfl) ?_
    refine n_geti (v := i_value) hx hb hts hown hG hR gFi_X6_57_5 sh_o.1 (ov_get 5 rfl rfl) dX6_number_33 ?_
    refine lv_istore_n (lv' := [(3, .int i_value), (0, .ref o), (1, .int p1), (2, .int p2)]) hx hb dX6_number_36 rfl hl (by decide) rfl (fun ls hl => ?_)
    refine lv_aload_n hx hb dX6_number_37 rfl (lv_at hl 1 rfl) ?_
    obtain ⟨rr6, hrr6, hf⟩ := bind_s hf
    refine g0_cUv (rm := (3, 65)) (As := []) (rest := []) ⟨hx, hb, hml, hown, hts⟩ hG hR hS (m6_nextY l G K (ov I [(106, (h + 2), rr4.2.1), (107, (h + 2), rr4.2.2), (501, o, i_p), (502, o, i_at), (503, o, i_token), (504, o, i_value), (505, o, i_many)]) (ov J [(506, o, j_name)]) X A B Q o h sh_o sh_h x_o_thisR i_h_size i_most i_p i_at i_token i_value i_many j_name a_h_tape ((congrFun (ov_no rfl) _).trans e_i_h_size) ((congrFun (ov_no rfl) _).trans e_i_most) (ov_get 2 rfl rfl) (ov_get 3 rfl rfl) (ov_get 4 rfl rfl) (ov_get 5 rfl rfl) (ov_get 6 rfl rfl) (ov_get 0 rfl rfl) e_a_h_tape rr6 hrr6) (va_cwU (x := ⟨"PailRow$Reader", "next", "()V"⟩) (owner := "PailRow$Reader") 0 hts gu_X6_22_5 rfl rfl rfl rfl ⟨by decide, by decide, (hd_X6_next.2).2.2⟩ ⟨Nat.le_of_ble_eq_true rfl, Nat.le_of_ble_eq_true rfl⟩) sh_o.1 rfl rfl hl.1 (Nat.le_of_ble_eq_true rfl) dX6_number_38 ⟨Nat.le_refl _, Nat.le_refl _⟩ rfl (fun H locs hR hS => ?_)
    have hR : RS G K (ov I [(106, (h + 2), rr4.2.1), (107, (h + 2), rr4.2.2), (501, o, rr6.1), (502, o, rr6.2.1), (503, o, rr6.2.2.1), (504, o, rr6.2.2.2.1), (505, o, rr6.2.2.2.2.1)]) (ov J [(506, o, rr6.2.2.2.2.2)]) X A B Q H := hR.to (ov_merge (l := [(106, (h + 2), rr4.2.1), (107, (h + 2), rr4.2.2), (501, o, i_p), (502, o, i_at), (503, o, i_token), (504, o, i_value), (505, o, i_many)]) rfl [2, 3, 4, 5, 6] [(501, o, rr6.1), (502, o, rr6.2.1), (503, o, rr6.2.2.1), (504, o, rr6.2.2.2.1), (505, o, rr6.2.2.2.2.1)] rfl rfl) (ov_merge (l := [(506, o, j_name)]) rfl [0] [(506, o, rr6.2.2.2.2.2)] rfl rfl) rfl rfl rfl rfl
    refine lv_iload_n hx hb dX6_number_41 rfl (lv_at hl 0 rfl) ?_
    obtain rfl := some_i hf
    exact hend _ rfl _ _ _ _ dX6_number_42 hR hS
  refine lv_icmp_ne (tgt := 13) hx hb dX6_number_6 (by decide) (fun c7 => ?_) (fun c7 => ?_)
  · have hf := ite_f c7 hf
    refine lv_iconst (v := 0) hx hb dX6_number_13 li_0 ?_
    exact hj14 (0 : Int32) hf _ _ _ hR hS (lv_sub hl [0, 1, 2] rfl)
  · have hf := ite_t c7 hf
    refine lv_iconst (v := 1) hx hb dX6_number_9 li_1 ?_
    refine lv_goto (tgt := 14) hx hb dX6_number_10 (by decide) ?_
    exact hj14 (1 : Int32) hf _ _ _ hR hS (lv_sub hl [0, 1, 2] rfl)
noncomputable def f6_manY_e1_0 (x1_0 : Int32) : Option (Int32) :=
  some x1_0

noncomputable def f6_manY_e1_1 (x1_1 : Int32) : Option (Int32) :=
  some x1_1

noncomputable def f6_manY_s1 (i_y_manMany : Int32) (j_name : Int64) (q_y_men : Nat → Option Nat) (mj_name : Nat → Int64) (w1_2 : Int32) : Option ((Int32) ⊕ ((Int32) ⊕ (Int32))) :=
  if i_y_manMany ≤ w1_2 then
    some (.inr (.inr (-1 : Int32)))
  else
    gd (inb w1_2 12) <|
    lt (q_y_men w1_2.toNatClampNeg) fun v4 =>
    (v4).bind fun m5 =>
    lt (mj_name m5) fun v6 =>
    lt (lg_cmp v6 j_name) fun v7 =>
    if v7 = 0 then
      some (.inr (.inl w1_2))
    else
      lt (w1_2 + (1 : Int32)) fun v9 =>
      some (.inl v9)

noncomputable def f6_manY (i_y_manMany : Int32) (j_name : Int64) (q_y_men : Nat → Option Nat) (mj_name : Nat → Int64) : Option (Int32) :=
  (whl (fun (s1 : Int32) => f6_manY_s1 i_y_manMany j_name q_y_men mj_name s1) FU (0 : Int32)).bind fun rl1 =>
  Sum.elim (f6_manY_e1_0) (f6_manY_e1_1) rl1
set_option maxHeartbeats 4000000 in
theorem m6_manY (l : Launch) (G : gG) (K : gK) (I : gI) (J : gJ) (X : gX) (A : gI) (B : gJ) (Q : gX) (o : Nat) (y : Nat) (h : Nat) (sh_o : Sh K X o 5 rows5) (sh_y : Sh K X y 3 rows3) (sh_h : Sh K X h 0 rows0) (x_o_thisR : X 507 o = some h)  (i_y_manMany : Int32) (j_name : Int64) (q_y_men : Nat → Option Nat) (mj_name : Nat → Int64) (e_i_y_manMany : I 303 y = i_y_manMany) (e_j_name : J 506 o = j_name) (e_q_y_men : Q (y + 1) = q_y_men) (e_mj_name : J 1200 = mj_name) (hman : ∀ (j m : Nat), q_y_men j = some m → K m = some (.inl 12)) (out : Int32) (hf : f6_manY i_y_manMany j_name q_y_men mj_name = some out) : GMet l yX6_man cX6_man 3 (some .int) (0) (0) G [.ref o, .ref y] K I J X A B Q (some (.int out)) K I J X A B Q 0 0 := by
  refine GMet.of (y := yX6_man) rfl (Nat.le_of_ble_eq_true rfl) rfl ?_
  intro p e s m below meth c ls hx hb hr hml hlocks hts hown hname hG hR hl
  have hown : s.vm.findClass RX6 = some m.cls := hown
  have k_q_y_men : K (y + 1) = some (.inr (4, 12)) := (sh_y.2 0 _ rfl).1
  have hR : RS G K I J X A B Q s.heap := hR.to rfl rfl rfl rfl rfl rfl
  have hS : va_S (gA G) s.heap s.heap [] := va_S.rf
  have hend : ∀ (pc : Nat) (H : Heap) (locs : List Loc) (ls : Array Slot), decode cX6_man pc = .ok (.ireturn, 1) → RS G K I J X A B Q H → va_S (gA G) s.heap H locs → W p l e ({ frames := 0, cells := 0, slots := 0, locals := 0 } : Room) s m ([.ref o, .ref y] : List Value).toArray below meth c H locs 0 0 (MQ below (gQ G (some (.int out)) K I J X A B Q) ([.ref o, .ref y] : List Value).toArray s 0 0 (gA G)) (F0 m pc ls [.int out]) := fun pc H locs ls hd hR hS => g_iret hx hb hr hlocks hG hR hS rfl hd
  generalize MQ below (gQ G (some (.int out)) K I J X A B Q) ([.ref o, .ref y] : List Value).toArray s 0 0 (gA G) = Z at hend ⊢
  generalize ([.ref o, .ref y] : List Value).toArray = args at hts hend ⊢
  unfold f6_manY at hf
  refine lv_iconst (v := 0) hx hb dX6_man_0 li_0 ?_
  refine lv_istore_n (lv' := [(2, .int (0 : Int32)), (0, .ref o), (1, .ref y)]) hx hb dX6_man_1 rfl hl (by decide) rfl (fun ls hl => ?_)
  obtain ⟨rl1, hw1, hfo1⟩ := bind_s hf
  have hx1_0 : ∀ (x1_0 : Int32), f6_manY_e1_0 x1_0 = some out → ∀ (H : Heap) (locs : List Loc) (ls : Array Slot), RS G K I J X A B Q H → va_S (gA G) s.heap H locs → lv_has ls 3 [(0, .ref o), (2, .int x1_0)] → W p l e ({ frames := 0, cells := 0, slots := 0, locals := 0 } : Room) s m args below meth c H locs 0 0 Z (F0 m 27 ls []) := by
    intro x1_0 hf H locs ls hR hS hl
    unfold f6_manY_e1_0 at hf
    refine lv_iload_n hx hb dX6_man_27 rfl (lv_at hl 1 rfl) ?_
    obtain rfl := some_i hf
    exact hend _ _ _ _ dX6_man_28 hR hS
  have hx1_1 : ∀ (x1_1 : Int32), f6_manY_e1_1 x1_1 = some out → ∀ (pc : Nat) (H : Heap) (locs : List Loc) (ls : Array Slot), decode cX6_man pc = .ok (.ireturn, 1) → RS G K I J X A B Q H → va_S (gA G) s.heap H locs → W p l e ({ frames := 0, cells := 0, slots := 0, locals := 0 } : Room) s m args below meth c H locs 0 0 Z (F0 m pc ls [.int x1_1]) := by
    intro x1_1 hf pc H locs ls hd hR hS
    unfold f6_manY_e1_1 at hf
    obtain rfl := some_i hf
    exact hend _ _ _ _ hd hR hS
  refine whl_walk (P := fun (s1 : Int32) => ∀ (H : Heap) (locs : List Loc) (ls : Array Slot), RS G K I J X A B Q H → va_S (gA G) s.heap H locs → lv_has ls 3 [(0, .ref o), (1, .ref y), (2, .int s1)] → W p l e ({ frames := 0, cells := 0, slots := 0, locals := 0 } : Room) s m args below meth c H locs 0 0 Z (F0 m 2 ls [])) (r := rl1) ?_ FU _ hw1 _ _ _ hR hS (lv_sub hl [1, 2, 0] rfl)
  clear hR hS hl hf
  intro s1 o1 hf hk1 H locs ls hR hS hl
  obtain ⟨w1_2, rfl⟩ : ∃ z, z = s1 := ⟨_, rfl⟩
  have hf : f6_manY_s1 i_y_manMany j_name q_y_men mj_name w1_2 = some o1 := hf
  have hR : RS G K I J X A B Q H := hR
  have hl : lv_has ls 3 [(0, .ref o), (1, .ref y), (2, .int w1_2)] := hl
  unfold f6_manY_s1 at hf
  refine lv_iload_n hx hb dX6_man_2 rfl (lv_at hl 2 rfl) ?_
  refine lv_aload_n hx hb dX6_man_3 rfl (lv_at hl 1 rfl) ?_
  refine n_geti (v := i_y_manMany) hx hb hts hown hG hR gFi_X6_97_3 sh_y.1 e_i_y_manMany dX6_man_4 ?_
  refine lv_icmp_ge (tgt := 35) hx hb dX6_man_7 (by decide) (fun c2 => ?_) (fun c2 => ?_)
  · have hf := ite_t c2 hf
    refine lv_iconst (v := -1) hx hb dX6_man_35 li_m1 ?_
    obtain rfl := some_i hf
    replace hk1 : _ = rl1 := hk1
    subst hk1
    exact hx1_1 (-1 : Int32) (el_r hfo1) _ _ _ _ dX6_man_36 hR hS
  · have hf := ite_f c2 hf
    refine lv_aload_n hx hb dX6_man_10 rfl (lv_at hl 1 rfl) ?_
    refine g_getr (b := (y + 1)) hx hb hts hown hG hR gFx_X6_102_3 sh_y.1 ((sh_y.2 0 _ rfl).2) dX6_man_11 ?_
    refine lv_iload_n hx hb dX6_man_14 rfl (lv_at hl 2 rfl) ?_
    obtain ⟨c3, hf⟩ := gd_some hf
    obtain ⟨v4, ev4, hf⟩ := lt_some hf
    refine n_aald (x := q_y_men) (t := 0) hx hb hG hR k_q_y_men (by decide) c3 e_q_y_men ev4 dX6_man_15 ?_
    obtain ⟨m5, hm5, hf⟩ := bind_s hf
    obtain ⟨v6, ev6, hf⟩ := lt_some hf
    refine n_some hm5 ?_
    have k_m5 : K m5 = some (.inl 12) := (hman _ _ (ev4 ▸ hm5))
    refine n_getj (v := v6) hx hb hts hown hG hR gFj_X6_106_12 k_m5 ((congrFun e_mj_name m5).trans ev6.symm) dX6_man_16 ?_
    refine lv_aload_n hx hb dX6_man_19 rfl (lv_at hl 0 rfl) ?_
    refine n_getj (v := j_name) hx hb hts hown hG hR gFj_X6_60_5 sh_o.1 e_j_name dX6_man_20 ?_
    obtain ⟨v7, ev7, hf⟩ := lt_some hf
    refine n_lcmp hx hb ev7 dX6_man_23 ?_
    refine lv_if_ne (tgt := 29) hx hb dX6_man_24 (by decide) (fun c8 => ?_) (fun c8 => ?_)
    · have hf := ite_f c8 hf
      obtain ⟨v9, ev9, hf⟩ := lt_some hf
      refine lv_iinc (k := 2) (v := v9) (lv' := [(2, .int v9), (0, .ref o), (1, .ref y)]) hx hb dX6_man_29 hl rfl (by rw [ev9]; rfl) (by decide) rfl (fun ls hl => ?_)
      refine lv_goto (tgt := 2) hx hb dX6_man_32 (by decide) ?_
      obtain rfl := some_i hf
      exact hk1 _ _ _ hR hS (lv_sub hl [1, 2, 0] rfl)
    · have hf := ite_t c8 hf
      obtain rfl := some_i hf
      replace hk1 : _ = rl1 := hk1
      subst hk1
      exact hx1_0 w1_2 (el_l hfo1) _ _ _ hR hS (lv_sub hl [0, 2] rfl)
noncomputable def f7_cells_e5_0 (i_h_size : Int32) (i_y_rows : Int32) (i_most : Int32) (i_p : Int32) (i_at : Int32) (i_token : Int32) (i_value : Int32) (i_many : Int32) (j_name : Int64) (a_h_tape : Nat → Int32) (rr3 : (Option Unit) × Int32 × Int32) (x5_0 : (Nat → Int32)) : Option ((Option Unit) × Int32 × Int32 × Int32 × Int32 × Int32 × Int32 × Int32 × Int32 × Int32 × Int64 × (Nat → Int32)) :=
  lt (i_y_rows + (1 : Int32)) fun v6 =>
  (f6_nextY i_h_size i_most i_p i_at i_token i_value i_many j_name a_h_tape).bind fun rr7 =>
  some ((some ()), rr3.2.1, rr3.2.2, i_many, v6, rr7.1, rr7.2.1, rr7.2.2.1, rr7.2.2.2.1, rr7.2.2.2.2.1, rr7.2.2.2.2.2, x5_0)

noncomputable def f7_cells_s5 (i_y_rows : Int32) (i_at : Int32) (i_many : Int32) (a_h_tape : Nat → Int32) (w5_1 : Int32) (w5_a_y_fuel : Nat → Int32) : Option ((Int32 × (Nat → Int32)) ⊕ ((Nat → Int32))) :=
  if i_many ≤ w5_1 then
    some (.inr w5_a_y_fuel)
  else
    lt ((8 : Int32) * i_y_rows) fun v9 =>
    lt (v9 + w5_1) fun v10 =>
    lt (i_at + w5_1) fun v11 =>
    gd (inb v11 740) <|
    lt (a_h_tape v11.toNatClampNeg) fun v13 =>
    lt (v13 - (48 : Int32)) fun v14 =>
    gd (inb v10 64) <|
    lt (upd w5_a_y_fuel v10.toNatClampNeg v14) fun u16 =>
    lt (w5_1 + (1 : Int32)) fun v17 =>
    some (.inl (v17, u16))

noncomputable def f7_cells_j48 (i_h_size : Int32) (i_y_columns : Int32) (i_y_rows : Int32) (i_most : Int32) (i_p : Int32) (i_at : Int32) (i_token : Int32) (i_value : Int32) (i_many : Int32) (j_name : Int64) (a_h_tape : Nat → Int32) (a_y_fuel : Nat → Int32) (rr1 : (Option Unit) × Int32 × Int32) (j48_s0 : Int32) : Option ((Option Unit) × Int32 × Int32 × Int32 × Int32 × Int32 × Int32 × Int32 × Int32 × Int32 × Int64 × (Nat → Int32)) :=
  (f6_mustY j48_s0 (2 : Int32) rr1.2.1 rr1.2.2 i_at).bind fun rr3 =>
  tr rr3.1 (some (none, rr3.2.1, rr3.2.2, i_y_columns, i_y_rows, i_p, i_at, i_token, i_value, i_many, j_name, a_y_fuel)) fun v4 =>
  (whl (fun (s5 : Int32 × (Nat → Int32)) => f7_cells_s5 i_y_rows i_at i_many a_h_tape s5.1 s5.2) FU ((0 : Int32), a_y_fuel)).bind fun rl5 =>
  f7_cells_e5_0 i_h_size i_y_rows i_most i_p i_at i_token i_value i_many j_name a_h_tape rr3 rl5

noncomputable def f7_cells_j43 (i_h_size : Int32) (i_y_columns : Int32) (i_y_rows : Int32) (i_most : Int32) (i_p : Int32) (i_at : Int32) (i_token : Int32) (i_value : Int32) (i_many : Int32) (j_name : Int64) (a_h_tape : Nat → Int32) (a_y_fuel : Nat → Int32) (rr1 : (Option Unit) × Int32 × Int32) : Option ((Option Unit) × Int32 × Int32 × Int32 × Int32 × Int32 × Int32 × Int32 × Int32 × Int32 × Int64 × (Nat → Int32)) :=
  f7_cells_j48 i_h_size i_y_columns i_y_rows i_most i_p i_at i_token i_value i_many j_name a_h_tape a_y_fuel rr1 (1 : Int32)

noncomputable def f7_cells_j14 (i_h_size : Int32) (i_h2_kind : Int32) (i_h2_place : Int32) (i_y_columns : Int32) (i_y_rows : Int32) (i_most : Int32) (i_p : Int32) (i_at : Int32) (i_token : Int32) (i_value : Int32) (i_many : Int32) (j_name : Int64) (a_h_tape : Nat → Int32) (a_y_fuel : Nat → Int32) (j14_s0 : Int32) : Option ((Option Unit) × Int32 × Int32 × Int32 × Int32 × Int32 × Int32 × Int32 × Int32 × Int32 × Int64 × (Nat → Int32)) :=
  (f6_mustY j14_s0 (1 : Int32) i_h2_kind i_h2_place i_at).bind fun rr1 =>
  tr rr1.1 (some (none, rr1.2.1, rr1.2.2, i_y_columns, i_y_rows, i_p, i_at, i_token, i_value, i_many, j_name, a_y_fuel)) fun v2 =>
  if i_y_rows = 0 then
    f7_cells_j43 i_h_size i_y_columns i_y_rows i_most i_p i_at i_token i_value i_many j_name a_h_tape a_y_fuel rr1
  else
    if i_many = i_y_columns then
      f7_cells_j43 i_h_size i_y_columns i_y_rows i_most i_p i_at i_token i_value i_many j_name a_h_tape a_y_fuel rr1
    else
      f7_cells_j48 i_h_size i_y_columns i_y_rows i_most i_p i_at i_token i_value i_many j_name a_h_tape a_y_fuel rr1 (0 : Int32)

noncomputable def f7_cells (i_h_size : Int32) (i_h2_kind : Int32) (i_h2_place : Int32) (i_y_columns : Int32) (i_y_rows : Int32) (i_most : Int32) (i_p : Int32) (i_at : Int32) (i_token : Int32) (i_value : Int32) (i_many : Int32) (j_name : Int64) (a_h_tape : Nat → Int32) (a_y_fuel : Nat → Int32) : Option ((Option Unit) × Int32 × Int32 × Int32 × Int32 × Int32 × Int32 × Int32 × Int32 × Int32 × Int64 × (Nat → Int32)) :=
  if i_token = (2 : Int32) then
    f7_cells_j14 i_h_size i_h2_kind i_h2_place i_y_columns i_y_rows i_most i_p i_at i_token i_value i_many j_name a_h_tape a_y_fuel (1 : Int32)
  else
    f7_cells_j14 i_h_size i_h2_kind i_h2_place i_y_columns i_y_rows i_most i_p i_at i_token i_value i_many j_name a_h_tape a_y_fuel (0 : Int32)
set_option maxHeartbeats 4000000 in
theorem m7_cells (l : Launch) (G : gG) (K : gK) (I : gI) (J : gJ) (X : gX) (A : gI) (B : gJ) (Q : gX) (o : Nat) (h : Nat) (y : Nat) (sh_o : Sh K X o 5 rows5) (sh_h : Sh K X h 0 rows0) (sh_y : Sh K X y 3 rows3) (sh_h2 : K (h + 2) = some (.inl 1)) (x_o_thisR : X 507 o = some h) (x_o_y : X 508 o = some y) (x_o_thisO : X 509 o = some h) (x_h_broken : X 4 h = some (h + 2)) (hN_A : nda [(h + 1), (y + 2)])  (i_h_size : Int32) (i_h2_kind : Int32) (i_h2_place : Int32) (i_y_columns : Int32) (i_y_rows : Int32) (i_most : Int32) (i_p : Int32) (i_at : Int32) (i_token : Int32) (i_value : Int32) (i_many : Int32) (j_name : Int64) (a_h_tape : Nat → Int32) (a_y_fuel : Nat → Int32) (e_i_h_size : I 2 h = i_h_size) (e_i_h2_kind : I 106 (h + 2) = i_h2_kind) (e_i_h2_place : I 107 (h + 2) = i_h2_place) (e_i_y_columns : I 304 y = i_y_columns) (e_i_y_rows : I 305 y = i_y_rows) (e_i_most : I 500 o = i_most) (e_i_p : I 501 o = i_p) (e_i_at : I 502 o = i_at) (e_i_token : I 503 o = i_token) (e_i_value : I 504 o = i_value) (e_i_many : I 505 o = i_many) (e_j_name : J 506 o = j_name) (e_a_h_tape : A (h + 1) = a_h_tape) (e_a_y_fuel : A (y + 2) = a_y_fuel) (out : (Option Unit) × Int32 × Int32 × Int32 × Int32 × Int32 × Int32 × Int32 × Int32 × Int32 × Int64 × (Nat → Int32)) (hf : f7_cells i_h_size i_h2_kind i_h2_place i_y_columns i_y_rows i_most i_p i_at i_token i_value i_many j_name a_h_tape a_y_fuel = some out) : GMetX l yX7_cells cX7_cells 2 none (4) (86) G [.ref o] K I J X A B Q (xo "PailRow$Fault" (h + 2) (Option.map (fun _ => none) out.1)) K (ov I [(106, (h + 2), out.2.1), (107, (h + 2), out.2.2.1), (304, y, out.2.2.2.1), (305, y, out.2.2.2.2.1), (501, o, out.2.2.2.2.2.1), (502, o, out.2.2.2.2.2.2.1), (503, o, out.2.2.2.2.2.2.2.1), (504, o, out.2.2.2.2.2.2.2.2.1), (505, o, out.2.2.2.2.2.2.2.2.2.1)]) (ov J [(506, o, out.2.2.2.2.2.2.2.2.2.2.1)]) X (ova A [((h + 1), a_h_tape), ((y + 2), out.2.2.2.2.2.2.2.2.2.2.2)]) B Q 0 0 := by
  refine GMetX.of (y := yX7_cells) rfl (Nat.le_of_ble_eq_true rfl) rfl ?_
  intro p e s m below meth c ls hx hb hr hml hlocks hts hown hname ht hG hR hW hl
  have hown : s.vm.findClass RX7 = some m.cls := hown
  have k_a_h_tape : K (h + 1) = some (.inr (2, 740)) := (sh_h.2 0 _ rfl).1
  have k_a_y_fuel : K (y + 2) = some (.inr (0, 64)) := (sh_y.2 1 _ rfl).1
  have hR : RS G K (ov I [(106, (h + 2), i_h2_kind), (107, (h + 2), i_h2_place), (304, y, i_y_columns), (305, y, i_y_rows), (501, o, i_p), (502, o, i_at), (503, o, i_token), (504, o, i_value), (505, o, i_many)]) (ov J [(506, o, j_name)]) X (ova A [((h + 1), a_h_tape), ((y + 2), a_y_fuel)]) B Q s.heap := hR.to (Eq.symm (ov_sc e_i_h2_kind (ov_sc e_i_h2_place (ov_sc e_i_y_columns (ov_sc e_i_y_rows (ov_sc e_i_p (ov_sc e_i_at (ov_sc e_i_token (ov_sc e_i_value (ov_sc e_i_many rfl)))))))))) (Eq.symm (ov_sc e_j_name rfl)) rfl (Eq.symm (ova_sc e_a_h_tape (ova_sc e_a_y_fuel rfl))) rfl rfl
  have hS : va_S (gA G) s.heap s.heap [] := va_S.rf
  have hend : ∀ (v : Unit), out.1 = some v → ∀ (pc : Nat) (H : Heap) (locs : List Loc) (ls : Array Slot), decode cX7_cells pc = .ok (.return_, 1) → RS G K (ov I [(106, (h + 2), out.2.1), (107, (h + 2), out.2.2.1), (304, y, out.2.2.2.1), (305, y, out.2.2.2.2.1), (501, o, out.2.2.2.2.2.1), (502, o, out.2.2.2.2.2.2.1), (503, o, out.2.2.2.2.2.2.2.1), (504, o, out.2.2.2.2.2.2.2.2.1), (505, o, out.2.2.2.2.2.2.2.2.2.1)]) (ov J [(506, o, out.2.2.2.2.2.2.2.2.2.2.1)]) X (ova A [((h + 1), a_h_tape), ((y + 2), out.2.2.2.2.2.2.2.2.2.2.2)]) B Q H → va_S (gA G) s.heap H locs → W p l e ({ frames := 4, cells := 0, slots := 0, locals := 86 } : Room) s m ([.ref o] : List Value).toArray below meth c H locs 0 0 (vx_MQ below (xQ G (xo "PailRow$Fault" (h + 2) (Option.map (fun _ => none) out.1)) K (ov I [(106, (h + 2), out.2.1), (107, (h + 2), out.2.2.1), (304, y, out.2.2.2.1), (305, y, out.2.2.2.2.1), (501, o, out.2.2.2.2.2.1), (502, o, out.2.2.2.2.2.2.1), (503, o, out.2.2.2.2.2.2.2.1), (504, o, out.2.2.2.2.2.2.2.2.1), (505, o, out.2.2.2.2.2.2.2.2.2.1)]) (ov J [(506, o, out.2.2.2.2.2.2.2.2.2.2.1)]) X (ova A [((h + 1), a_h_tape), ((y + 2), out.2.2.2.2.2.2.2.2.2.2.2)]) B Q) (xX G (xo "PailRow$Fault" (h + 2) (Option.map (fun _ => none) out.1)) K (ov I [(106, (h + 2), out.2.1), (107, (h + 2), out.2.2.1), (304, y, out.2.2.2.1), (305, y, out.2.2.2.2.1), (501, o, out.2.2.2.2.2.1), (502, o, out.2.2.2.2.2.2.1), (503, o, out.2.2.2.2.2.2.2.1), (504, o, out.2.2.2.2.2.2.2.2.1), (505, o, out.2.2.2.2.2.2.2.2.2.1)]) (ov J [(506, o, out.2.2.2.2.2.2.2.2.2.2.1)]) X (ova A [((h + 1), a_h_tape), ((y + 2), out.2.2.2.2.2.2.2.2.2.2.2)]) B Q) ([.ref o] : List Value).toArray s 0 0 (gA G)) (F0 m pc ls []) := fun v hv pc H locs ls hd hR hS => x_vret hx hb hr hlocks hG hR hS (by rw [hv]; rfl) hd
  have hthr : out.1 = none → ∀ (pc : Nat) (H : Heap) (locs : List Loc) (ls : Array Slot) (rest : List Value), RS G K (ov I [(106, (h + 2), out.2.1), (107, (h + 2), out.2.2.1), (304, y, out.2.2.2.1), (305, y, out.2.2.2.2.1), (501, o, out.2.2.2.2.2.1), (502, o, out.2.2.2.2.2.2.1), (503, o, out.2.2.2.2.2.2.2.1), (504, o, out.2.2.2.2.2.2.2.2.1), (505, o, out.2.2.2.2.2.2.2.2.2.1)]) (ov J [(506, o, out.2.2.2.2.2.2.2.2.2.2.1)]) X (ova A [((h + 1), a_h_tape), ((y + 2), out.2.2.2.2.2.2.2.2.2.2.2)]) B Q H → va_S (gA G) s.heap H locs → vx_W p l e ({ frames := 4, cells := 0, slots := 0, locals := 86 } : Room) s m ([.ref o] : List Value).toArray below meth c H locs 0 0 (vx_MQ below (xQ G (xo "PailRow$Fault" (h + 2) (Option.map (fun _ => none) out.1)) K (ov I [(106, (h + 2), out.2.1), (107, (h + 2), out.2.2.1), (304, y, out.2.2.2.1), (305, y, out.2.2.2.2.1), (501, o, out.2.2.2.2.2.1), (502, o, out.2.2.2.2.2.2.1), (503, o, out.2.2.2.2.2.2.2.1), (504, o, out.2.2.2.2.2.2.2.2.1), (505, o, out.2.2.2.2.2.2.2.2.2.1)]) (ov J [(506, o, out.2.2.2.2.2.2.2.2.2.2.1)]) X (ova A [((h + 1), a_h_tape), ((y + 2), out.2.2.2.2.2.2.2.2.2.2.2)]) B Q) (xX G (xo "PailRow$Fault" (h + 2) (Option.map (fun _ => none) out.1)) K (ov I [(106, (h + 2), out.2.1), (107, (h + 2), out.2.2.1), (304, y, out.2.2.2.1), (305, y, out.2.2.2.2.1), (501, o, out.2.2.2.2.2.1), (502, o, out.2.2.2.2.2.2.1), (503, o, out.2.2.2.2.2.2.2.1), (504, o, out.2.2.2.2.2.2.2.2.1), (505, o, out.2.2.2.2.2.2.2.2.2.1)]) (ov J [(506, o, out.2.2.2.2.2.2.2.2.2.2.1)]) X (ova A [((h + 1), a_h_tape), ((y + 2), out.2.2.2.2.2.2.2.2.2.2.2)]) B Q) ([.ref o] : List Value).toArray s 0 0 (gA G)) (F0 m pc ls rest) (h + 2) := fun hn pc H locs ls rest hR hS => x_out (ci := 1) ht hlocks hG hR hS sh_h2 rfl (by rw [hn]; rfl)
  generalize vx_MQ below (xQ G (xo "PailRow$Fault" (h + 2) (Option.map (fun _ => none) out.1)) K (ov I [(106, (h + 2), out.2.1), (107, (h + 2), out.2.2.1), (304, y, out.2.2.2.1), (305, y, out.2.2.2.2.1), (501, o, out.2.2.2.2.2.1), (502, o, out.2.2.2.2.2.2.1), (503, o, out.2.2.2.2.2.2.2.1), (504, o, out.2.2.2.2.2.2.2.2.1), (505, o, out.2.2.2.2.2.2.2.2.2.1)]) (ov J [(506, o, out.2.2.2.2.2.2.2.2.2.2.1)]) X (ova A [((h + 1), a_h_tape), ((y + 2), out.2.2.2.2.2.2.2.2.2.2.2)]) B Q) (xX G (xo "PailRow$Fault" (h + 2) (Option.map (fun _ => none) out.1)) K (ov I [(106, (h + 2), out.2.1), (107, (h + 2), out.2.2.1), (304, y, out.2.2.2.1), (305, y, out.2.2.2.2.1), (501, o, out.2.2.2.2.2.1), (502, o, out.2.2.2.2.2.2.1), (503, o, out.2.2.2.2.2.2.2.1), (504, o, out.2.2.2.2.2.2.2.2.1), (505, o, out.2.2.2.2.2.2.2.2.2.1)]) (ov J [(506, o, out.2.2.2.2.2.2.2.2.2.2.1)]) X (ova A [((h + 1), a_h_tape), ((y + 2), out.2.2.2.2.2.2.2.2.2.2.2)]) B Q) ([.ref o] : List Value).toArray s 0 0 (gA G) = Z at hend hthr ⊢
  generalize ([.ref o] : List Value).toArray = args at hts hend hthr ⊢
  unfold f7_cells at hf
  refine lv_aload_n hx hb dX7_cells_0 rfl (lv_at hl 0 rfl) ?_
  refine lv_aload_n hx hb dX7_cells_1 rfl (lv_at hl 0 rfl) ?_
  refine n_geti (v := i_token) hx hb hts hown hG hR gFi_X7_23_5 sh_o.1 (ov_get 6 rfl rfl) dX7_cells_2 ?_
  refine lv_iconst (v := 2) hx hb dX7_cells_5 li_2 ?_
  have hj14 : ∀ (j14_s0 : Int32), f7_cells_j14 i_h_size i_h2_kind i_h2_place i_y_columns i_y_rows i_most i_p i_at i_token i_value i_many j_name a_h_tape a_y_fuel j14_s0 = some out → ∀ (H : Heap) (locs : List Loc) (ls : Array Slot), RS G K (ov I [(106, (h + 2), i_h2_kind), (107, (h + 2), i_h2_place), (304, y, i_y_columns), (305, y, i_y_rows), (501, o, i_p), (502, o, i_at), (503, o, i_token), (504, o, i_value), (505, o, i_many)]) (ov J [(506, o, j_name)]) X (ova A [((h + 1), a_h_tape), ((y + 2), a_y_fuel)]) B Q H → va_S (gA G) s.heap H locs → lv_has ls 2 [(0, .ref o)] → W p l e ({ frames := 4, cells := 0, slots := 0, locals := 86 } : Room) s m args below meth c H locs 0 0 Z (F0 m 14 ls [.int j14_s0, .ref o]) := by
    intro j14_s0 hf H locs ls hR hS hl
    unfold f7_cells_j14 at hf
    refine lv_iconst (v := 1) hx hb dX7_cells_14 li_1 ?_
    obtain ⟨rr1, hrr1, hf⟩ := bind_s hf
    refine x0_gou (vx_runU (As := [.int j14_s0, .int (1 : Int32)]) (rest := []) (b := o) ⟨hx, hb, hml, hown, hts⟩ (m6_mustY l G K (ov I [(106, (h + 2), i_h2_kind), (107, (h + 2), i_h2_place), (304, y, i_y_columns), (305, y, i_y_rows), (501, o, i_p), (502, o, i_at), (503, o, i_token), (504, o, i_value), (505, o, i_many)]) (ov J [(506, o, j_name)]) X (ova A [((h + 1), a_h_tape), ((y + 2), a_y_fuel)]) B Q o h sh_o sh_h sh_h2 x_o_thisR x_h_broken j14_s0 (1 : Int32) i_h2_kind i_h2_place i_at (ov_get 0 rfl rfl) (ov_get 1 rfl rfl) (ov_get 5 rfl rfl) rr1 hrr1) (va_cwU (x := ⟨"PailRow$YardReader", "must", "(ZI)V"⟩) (owner := "PailRow$Reader") 2 hts gu_X7_35_5 rfl rfl rfl rfl ⟨by decide, by decide, (hd_X6_must.2).2.2⟩ ⟨Nat.le_of_ble_eq_true rfl, Nat.le_of_ble_eq_true rfl⟩) (x_preV hG hR hW hS sh_o.1 rfl) rfl rfl hl.1 rfl (lv_room (Nat.le_of_ble_eq_true rfl)) dX7_cells_15 ⟨Nat.le_refl _, Nat.le_refl _⟩) hS (fun H locs hnv2 hR hS => ?_) (fun v2 H locs hvv2 hR hS => ?_)
    · have hf := tr_n hnv2 hf
      have hR : RS G K (ov I [(106, (h + 2), rr1.2.1), (107, (h + 2), rr1.2.2), (304, y, i_y_columns), (305, y, i_y_rows), (501, o, i_p), (502, o, i_at), (503, o, i_token), (504, o, i_value), (505, o, i_many)]) (ov J [(506, o, j_name)]) X (ova A [((h + 1), a_h_tape), ((y + 2), a_y_fuel)]) B Q H := hR.to (ov_merge (l := [(106, (h + 2), i_h2_kind), (107, (h + 2), i_h2_place), (304, y, i_y_columns), (305, y, i_y_rows), (501, o, i_p), (502, o, i_at), (503, o, i_token), (504, o, i_value), (505, o, i_many)]) rfl [0, 1] [(106, (h + 2), rr1.2.1), (107, (h + 2), rr1.2.2)] rfl rfl) rfl rfl rfl rfl rfl
      obtain rfl := some_i hf
      exact hthr rfl _ _ _ _ _ hR hS
    have hf := tr_s hvv2 hf
    have hR : RS G K (ov I [(106, (h + 2), rr1.2.1), (107, (h + 2), rr1.2.2), (304, y, i_y_columns), (305, y, i_y_rows), (501, o, i_p), (502, o, i_at), (503, o, i_token), (504, o, i_value), (505, o, i_many)]) (ov J [(506, o, j_name)]) X (ova A [((h + 1), a_h_tape), ((y + 2), a_y_fuel)]) B Q H := hR.to (ov_merge (l := [(106, (h + 2), i_h2_kind), (107, (h + 2), i_h2_place), (304, y, i_y_columns), (305, y, i_y_rows), (501, o, i_p), (502, o, i_at), (503, o, i_token), (504, o, i_value), (505, o, i_many)]) rfl [0, 1] [(106, (h + 2), rr1.2.1), (107, (h + 2), rr1.2.2)] rfl rfl) rfl rfl rfl rfl rfl
    refine lv_aload_n hx hb dX7_cells_18 rfl (lv_at hl 0 rfl) ?_
    refine lv_aload_n hx hb dX7_cells_19 rfl (lv_at hl 0 rfl) ?_
    refine g_getr (b := y) hx hb hts hown hG hR gFx_X7_15_5 sh_o.1 x_o_y dX7_cells_20 ?_
    refine n_geti (v := i_y_rows) hx hb hts hown hG hR gFi_X7_44_3 sh_y.1 (ov_get 3 rfl rfl) dX7_cells_23 ?_
    have hj48 : ∀ (j48_s0 : Int32), f7_cells_j48 i_h_size i_y_columns i_y_rows i_most i_p i_at i_token i_value i_many j_name a_h_tape a_y_fuel rr1 j48_s0 = some out → ∀ (H : Heap) (locs : List Loc) (ls : Array Slot), RS G K (ov I [(106, (h + 2), rr1.2.1), (107, (h + 2), rr1.2.2), (304, y, i_y_columns), (305, y, i_y_rows), (501, o, i_p), (502, o, i_at), (503, o, i_token), (504, o, i_value), (505, o, i_many)]) (ov J [(506, o, j_name)]) X (ova A [((h + 1), a_h_tape), ((y + 2), a_y_fuel)]) B Q H → va_S (gA G) s.heap H locs → lv_has ls 2 [(0, .ref o)] → W p l e ({ frames := 4, cells := 0, slots := 0, locals := 86 } : Room) s m args below meth c H locs 0 0 Z (F0 m 48 ls [.int j48_s0, .ref o]) := by
      intro j48_s0 hf H locs ls hR hS hl
      unfold f7_cells_j48 at hf
      refine lv_iconst (v := 2) hx hb dX7_cells_48 li_2 ?_
      obtain ⟨rr3, hrr3, hf⟩ := bind_s hf
      refine x0_gou (vx_runU (As := [.int j48_s0, .int (2 : Int32)]) (rest := []) (b := o) ⟨hx, hb, hml, hown, hts⟩ (m6_mustY l G K (ov I [(106, (h + 2), rr1.2.1), (107, (h + 2), rr1.2.2), (304, y, i_y_columns), (305, y, i_y_rows), (501, o, i_p), (502, o, i_at), (503, o, i_token), (504, o, i_value), (505, o, i_many)]) (ov J [(506, o, j_name)]) X (ova A [((h + 1), a_h_tape), ((y + 2), a_y_fuel)]) B Q o h sh_o sh_h sh_h2 x_o_thisR x_h_broken j48_s0 (2 : Int32) rr1.2.1 rr1.2.2 i_at (ov_get 0 rfl rfl) (ov_get 1 rfl rfl) (ov_get 5 rfl rfl) rr3 hrr3) (va_cwU (x := ⟨"PailRow$YardReader", "must", "(ZI)V"⟩) (owner := "PailRow$Reader") 2 hts gu_X7_35_5 rfl rfl rfl rfl ⟨by decide, by decide, (hd_X6_must.2).2.2⟩ ⟨Nat.le_of_ble_eq_true rfl, Nat.le_of_ble_eq_true rfl⟩) (x_preV hG hR hW hS sh_o.1 rfl) rfl rfl hl.1 rfl (lv_room (Nat.le_of_ble_eq_true rfl)) dX7_cells_49 ⟨Nat.le_refl _, Nat.le_refl _⟩) hS (fun H locs hnv4 hR hS => ?_) (fun v4 H locs hvv4 hR hS => ?_)
      · have hf := tr_n hnv4 hf
        have hR : RS G K (ov I [(106, (h + 2), rr3.2.1), (107, (h + 2), rr3.2.2), (304, y, i_y_columns), (305, y, i_y_rows), (501, o, i_p), (502, o, i_at), (503, o, i_token), (504, o, i_value), (505, o, i_many)]) (ov J [(506, o, j_name)]) X (ova A [((h + 1), a_h_tape), ((y + 2), a_y_fuel)]) B Q H := hR.to (ov_merge (l := [(106, (h + 2), rr1.2.1), (107, (h + 2), rr1.2.2), (304, y, i_y_columns), (305, y, i_y_rows), (501, o, i_p), (502, o, i_at), (503, o, i_token), (504, o, i_value), (505, o, i_many)]) rfl [0, 1] [(106, (h + 2), rr3.2.1), (107, (h + 2), rr3.2.2)] rfl rfl) rfl rfl rfl rfl rfl
        obtain rfl := some_i hf
        exact hthr rfl _ _ _ _ _ hR hS
      have hf := tr_s hvv4 hf
      have hR : RS G K (ov I [(106, (h + 2), rr3.2.1), (107, (h + 2), rr3.2.2), (304, y, i_y_columns), (305, y, i_y_rows), (501, o, i_p), (502, o, i_at), (503, o, i_token), (504, o, i_value), (505, o, i_many)]) (ov J [(506, o, j_name)]) X (ova A [((h + 1), a_h_tape), ((y + 2), a_y_fuel)]) B Q H := hR.to (ov_merge (l := [(106, (h + 2), rr1.2.1), (107, (h + 2), rr1.2.2), (304, y, i_y_columns), (305, y, i_y_rows), (501, o, i_p), (502, o, i_at), (503, o, i_token), (504, o, i_value), (505, o, i_many)]) rfl [0, 1] [(106, (h + 2), rr3.2.1), (107, (h + 2), rr3.2.2)] rfl rfl) rfl rfl rfl rfl rfl
      refine lv_aload_n hx hb dX7_cells_52 rfl (lv_at hl 0 rfl) ?_
      refine g_getr (b := y) hx hb hts hown hG hR gFx_X7_15_5 sh_o.1 x_o_y dX7_cells_53 ?_
      refine lv_aload_n hx hb dX7_cells_56 rfl (lv_at hl 0 rfl) ?_
      refine n_geti (v := i_many) hx hb hts hown hG hR gFi_X7_120_5 sh_o.1 (ov_get 8 rfl rfl) dX7_cells_57 ?_
      refine n_puti (li' := [(106, (h + 2), rr3.2.1), (107, (h + 2), rr3.2.2), (304, y, i_many), (305, y, i_y_rows), (501, o, i_p), (502, o, i_at), (503, o, i_token), (504, o, i_value), (505, o, i_many)]) hx hb hts hown hG hR hS gPi_X7_123_3 sh_y.1 2 rfl rfl rfl dX7_cells_60 (fun H locs hR hS => ?_)
      refine lv_iconst (v := 0) hx hb dX7_cells_63 li_0 ?_
      refine lv_istore_n (lv' := [(1, .int (0 : Int32)), (0, .ref o)]) hx hb dX7_cells_64 rfl hl (by decide) rfl (fun ls hl => ?_)
      obtain ⟨rl5, hw5, hfo5⟩ := bind_s hf
      have hx5_0 : ∀ (x5_0 : (Nat → Int32)), f7_cells_e5_0 i_h_size i_y_rows i_most i_p i_at i_token i_value i_many j_name a_h_tape rr3 x5_0 = some out → ∀ (H : Heap) (locs : List Loc) (ls : Array Slot), RS G K (ov I [(106, (h + 2), rr3.2.1), (107, (h + 2), rr3.2.2), (304, y, i_many), (305, y, i_y_rows), (501, o, i_p), (502, o, i_at), (503, o, i_token), (504, o, i_value), (505, o, i_many)]) (ov J [(506, o, j_name)]) X (ova A [((h + 1), a_h_tape), ((y + 2), x5_0)]) B Q H → va_S (gA G) s.heap H locs → lv_has ls 2 [(0, .ref o)] → W p l e ({ frames := 4, cells := 0, slots := 0, locals := 86 } : Room) s m args below meth c H locs 0 0 Z (F0 m 116 ls []) := by
        intro x5_0 hf H locs ls hR hS hl
        unfold f7_cells_e5_0 at hf
        refine lv_aload_n hx hb dX7_cells_116 rfl (lv_at hl 0 rfl) ?_
        refine g_getr (b := y) hx hb hts hown hG hR gFx_X7_15_5 sh_o.1 x_o_y dX7_cells_117 ?_
        refine lv_dup hx hb dX7_cells_120 rfl ?_
        refine n_geti (v := i_y_rows) hx hb hts hown hG hR gFi_X7_44_3 sh_y.1 (ov_get 3 rfl rfl) dX7_cells_121 ?_
        refine lv_iconst (v := 1) hx hb dX7_cells_124 li_1 ?_
        obtain ⟨v6, ev6, hf⟩ := lt_some hf
        refine n_iadd hx hb ev6 dX7_cells_125 ?_
        refine n_puti (li' := [(106, (h + 2), rr3.2.1), (107, (h + 2), rr3.2.2), (304, y, i_many), (305, y, v6), (501, o, i_p), (502, o, i_at), (503, o, i_token), (504, o, i_value), (505, o, i_many)]) hx hb hts hown hG hR hS gPi_X7_44_3 sh_y.1 3 rfl rfl rfl dX7_cells_126 (fun H locs hR hS => ?_)
        refine lv_aload_n hx hb dX7_cells_129 rfl (lv_at hl 0 rfl) ?_
        obtain ⟨rr7, hrr7, hf⟩ := bind_s hf
        refine g0_cUv (rm := (3, 65)) (As := []) (rest := []) ⟨hx, hb, hml, hown, hts⟩ hG hR hS (m6_nextY l G K (ov I [(106, (h + 2), rr3.2.1), (107, (h + 2), rr3.2.2), (304, y, i_many), (305, y, v6), (501, o, i_p), (502, o, i_at), (503, o, i_token), (504, o, i_value), (505, o, i_many)]) (ov J [(506, o, j_name)]) X (ova A [((h + 1), a_h_tape), ((y + 2), x5_0)]) B Q o h sh_o sh_h x_o_thisR i_h_size i_most i_p i_at i_token i_value i_many j_name a_h_tape ((congrFun (ov_no rfl) _).trans e_i_h_size) ((congrFun (ov_no rfl) _).trans e_i_most) (ov_get 4 rfl rfl) (ov_get 5 rfl rfl) (ov_get 6 rfl rfl) (ov_get 7 rfl rfl) (ov_get 8 rfl rfl) (ov_get 0 rfl rfl) (ova_get 0 hN_A rfl) rr7 hrr7) (va_cwU (x := ⟨"PailRow$YardReader", "next", "()V"⟩) (owner := "PailRow$Reader") 0 hts gu_X7_47_5 rfl rfl rfl rfl ⟨by decide, by decide, (hd_X6_next.2).2.2⟩ ⟨Nat.le_of_ble_eq_true rfl, Nat.le_of_ble_eq_true rfl⟩) sh_o.1 rfl rfl hl.1 (Nat.le_of_ble_eq_true rfl) dX7_cells_130 ⟨Nat.le_refl _, Nat.le_refl _⟩ rfl (fun H locs hR hS => ?_)
        have hR : RS G K (ov I [(106, (h + 2), rr3.2.1), (107, (h + 2), rr3.2.2), (304, y, i_many), (305, y, v6), (501, o, rr7.1), (502, o, rr7.2.1), (503, o, rr7.2.2.1), (504, o, rr7.2.2.2.1), (505, o, rr7.2.2.2.2.1)]) (ov J [(506, o, rr7.2.2.2.2.2)]) X (ova A [((h + 1), a_h_tape), ((y + 2), x5_0)]) B Q H := hR.to (ov_merge (l := [(106, (h + 2), rr3.2.1), (107, (h + 2), rr3.2.2), (304, y, i_many), (305, y, v6), (501, o, i_p), (502, o, i_at), (503, o, i_token), (504, o, i_value), (505, o, i_many)]) rfl [4, 5, 6, 7, 8] [(501, o, rr7.1), (502, o, rr7.2.1), (503, o, rr7.2.2.1), (504, o, rr7.2.2.2.1), (505, o, rr7.2.2.2.2.1)] rfl rfl) (ov_merge (l := [(506, o, j_name)]) rfl [0] [(506, o, rr7.2.2.2.2.2)] rfl rfl) rfl rfl rfl rfl
        obtain rfl := some_i hf
        exact hend _ rfl _ _ _ _ dX7_cells_133 hR hS
      refine whl_walk (P := fun (s5 : Int32 × (Nat → Int32)) => ∀ (H : Heap) (locs : List Loc) (ls : Array Slot), RS G K (ov I [(106, (h + 2), rr3.2.1), (107, (h + 2), rr3.2.2), (304, y, i_many), (305, y, i_y_rows), (501, o, i_p), (502, o, i_at), (503, o, i_token), (504, o, i_value), (505, o, i_many)]) (ov J [(506, o, j_name)]) X (ova A [((h + 1), a_h_tape), ((y + 2), s5.2)]) B Q H → va_S (gA G) s.heap H locs → lv_has ls 2 [(0, .ref o), (1, .int s5.1)] → W p l e ({ frames := 4, cells := 0, slots := 0, locals := 86 } : Room) s m args below meth c H locs 0 0 Z (F0 m 65 ls [])) (r := rl5) ?_ FU _ hw5 _ _ _ hR hS (lv_sub hl [1, 0] rfl)
      clear hR hS hl hf
      intro s5 o5 hf hk5 H locs ls hR hS hl
      obtain ⟨w5_1, w5_a_y_fuel⟩ := s5
      have hf : f7_cells_s5 i_y_rows i_at i_many a_h_tape w5_1 w5_a_y_fuel = some o5 := hf
      have hR : RS G K (ov I [(106, (h + 2), rr3.2.1), (107, (h + 2), rr3.2.2), (304, y, i_many), (305, y, i_y_rows), (501, o, i_p), (502, o, i_at), (503, o, i_token), (504, o, i_value), (505, o, i_many)]) (ov J [(506, o, j_name)]) X (ova A [((h + 1), a_h_tape), ((y + 2), w5_a_y_fuel)]) B Q H := hR
      have hl : lv_has ls 2 [(0, .ref o), (1, .int w5_1)] := hl
      unfold f7_cells_s5 at hf
      refine lv_iload_n hx hb dX7_cells_65 rfl (lv_at hl 1 rfl) ?_
      refine lv_aload_n hx hb dX7_cells_66 rfl (lv_at hl 0 rfl) ?_
      refine n_geti (v := i_many) hx hb hts hown hG hR gFi_X7_120_5 sh_o.1 (ov_get 8 rfl rfl) dX7_cells_67 ?_
      refine lv_icmp_ge (tgt := 116) hx hb dX7_cells_70 (by decide) (fun c8 => ?_) (fun c8 => ?_)
      · have hf := ite_t c8 hf
        obtain rfl := some_i hf
        replace hk5 : _ = rl5 := hk5
        subst hk5
        exact hx5_0 w5_a_y_fuel hfo5 _ _ _ hR hS (lv_sub hl [0] rfl)
      · have hf := ite_f c8 hf
        refine lv_aload_n hx hb dX7_cells_73 rfl (lv_at hl 0 rfl) ?_
        refine g_getr (b := y) hx hb hts hown hG hR gFx_X7_15_5 sh_o.1 x_o_y dX7_cells_74 ?_
        refine g_getr (b := (y + 2)) hx hb hts hown hG hR gFx_X7_126_3 sh_y.1 ((sh_y.2 1 _ rfl).2) dX7_cells_77 ?_
        refine lv_bipush (v := 8) hx hb dX7_cells_80 lb_8 ?_
        refine lv_aload_n hx hb dX7_cells_82 rfl (lv_at hl 0 rfl) ?_
        refine g_getr (b := y) hx hb hts hown hG hR gFx_X7_15_5 sh_o.1 x_o_y dX7_cells_83 ?_
        refine n_geti (v := i_y_rows) hx hb hts hown hG hR gFi_X7_44_3 sh_y.1 (ov_get 3 rfl rfl) dX7_cells_86 ?_
        obtain ⟨v9, ev9, hf⟩ := lt_some hf
        refine n_imul hx hb ev9 dX7_cells_89 ?_
        refine lv_iload_n hx hb dX7_cells_90 rfl (lv_at hl 1 rfl) ?_
        obtain ⟨v10, ev10, hf⟩ := lt_some hf
        refine n_iadd hx hb ev10 dX7_cells_91 ?_
        refine lv_aload_n hx hb dX7_cells_92 rfl (lv_at hl 0 rfl) ?_
        refine g_getr (b := h) hx hb hts hown hG hR gFx_X7_3_5 sh_o.1 x_o_thisO dX7_cells_93 ?_
        refine g_getr (b := (h + 1)) hx hb hts hown hG hR gFx_X7_130_0 sh_h.1 ((sh_h.2 0 _ rfl).2) dX7_cells_96 ?_
        refine lv_aload_n hx hb dX7_cells_99 rfl (lv_at hl 0 rfl) ?_
        refine n_geti (v := i_at) hx hb hts hown hG hR gFi_X7_134_5 sh_o.1 (ov_get 5 rfl rfl) dX7_cells_100 ?_
        refine lv_iload_n hx hb dX7_cells_103 rfl (lv_at hl 1 rfl) ?_
        obtain ⟨v11, ev11, hf⟩ := lt_some hf
        refine n_iadd hx hb ev11 dX7_cells_104 ?_
        obtain ⟨c12, hf⟩ := gd_some hf
        obtain ⟨v13, ev13, hf⟩ := lt_some hf
        refine n_bald (x := a_h_tape) hx hb hG hR k_a_h_tape c12 (ova_get 0 hN_A rfl) ev13 dX7_cells_105 ?_
        refine lv_bipush (v := 48) hx hb dX7_cells_106 lb_48 ?_
        obtain ⟨v14, ev14, hf⟩ := lt_some hf
        refine n_isub hx hb ev14 dX7_cells_108 ?_
        obtain ⟨c15, hf⟩ := gd_some hf
        obtain ⟨u16, eu16, hf⟩ := lt_some hf
        refine n_iast (la' := [((h + 1), a_h_tape), ((y + 2), u16)]) hx hb hG hR hS k_a_y_fuel c15 hN_A 1 rfl eu16 rfl dX7_cells_109 (fun H locs hR hS => ?_)
        obtain ⟨v17, ev17, hf⟩ := lt_some hf
        refine lv_iinc (k := 1) (v := v17) (lv' := [(1, .int v17), (0, .ref o)]) hx hb dX7_cells_110 hl rfl (by rw [ev17]; rfl) (by decide) rfl (fun ls hl => ?_)
        refine lv_goto (tgt := 65) hx hb dX7_cells_113 (by decide) ?_
        obtain rfl := some_i hf
        exact hk5 _ _ _ hR hS (lv_sub hl [1, 0] rfl)
    have hj43 : ∀ (_ : Unit), f7_cells_j43 i_h_size i_y_columns i_y_rows i_most i_p i_at i_token i_value i_many j_name a_h_tape a_y_fuel rr1 = some out → ∀ (H : Heap) (locs : List Loc) (ls : Array Slot), RS G K (ov I [(106, (h + 2), rr1.2.1), (107, (h + 2), rr1.2.2), (304, y, i_y_columns), (305, y, i_y_rows), (501, o, i_p), (502, o, i_at), (503, o, i_token), (504, o, i_value), (505, o, i_many)]) (ov J [(506, o, j_name)]) X (ova A [((h + 1), a_h_tape), ((y + 2), a_y_fuel)]) B Q H → va_S (gA G) s.heap H locs → lv_has ls 2 [(0, .ref o)] → W p l e ({ frames := 4, cells := 0, slots := 0, locals := 86 } : Room) s m args below meth c H locs 0 0 Z (F0 m 43 ls [.ref o]) := by
      intro _ hf H locs ls hR hS hl
      unfold f7_cells_j43 at hf
      refine lv_iconst (v := 1) hx hb dX7_cells_43 li_1 ?_
      refine lv_goto (tgt := 48) hx hb dX7_cells_44 (by decide) ?_
      exact hj48 (1 : Int32) hf _ _ _ hR hS (lv_sub hl [0] rfl)
    refine lv_if_eq (tgt := 43) hx hb dX7_cells_26 (by decide) (fun c18 => ?_) (fun c18 => ?_)
    · have hf := ite_t c18 hf
      exact hj43 () hf _ _ _ hR hS (lv_sub hl [0] rfl)
    · have hf := ite_f c18 hf
      refine lv_aload_n hx hb dX7_cells_29 rfl (lv_at hl 0 rfl) ?_
      refine n_geti (v := i_many) hx hb hts hown hG hR gFi_X7_120_5 sh_o.1 (ov_get 8 rfl rfl) dX7_cells_30 ?_
      refine lv_aload_n hx hb dX7_cells_33 rfl (lv_at hl 0 rfl) ?_
      refine g_getr (b := y) hx hb hts hown hG hR gFx_X7_15_5 sh_o.1 x_o_y dX7_cells_34 ?_
      refine n_geti (v := i_y_columns) hx hb hts hown hG hR gFi_X7_123_3 sh_y.1 (ov_get 2 rfl rfl) dX7_cells_37 ?_
      refine lv_icmp_ne (tgt := 47) hx hb dX7_cells_40 (by decide) (fun c19 => ?_) (fun c19 => ?_)
      · have hf := ite_f c19 hf
        refine lv_iconst (v := 0) hx hb dX7_cells_47 li_0 ?_
        exact hj48 (0 : Int32) hf _ _ _ hR hS (lv_sub hl [0] rfl)
      · have hf := ite_t c19 hf
        exact hj43 () hf _ _ _ hR hS (lv_sub hl [0] rfl)
  refine lv_icmp_ne (tgt := 13) hx hb dX7_cells_6 (by decide) (fun c20 => ?_) (fun c20 => ?_)
  · have hf := ite_f c20 hf
    refine lv_iconst (v := 0) hx hb dX7_cells_13 li_0 ?_
    exact hj14 (0 : Int32) hf _ _ _ hR hS (lv_sub hl [0] rfl)
  · have hf := ite_t c20 hf
    refine lv_iconst (v := 1) hx hb dX7_cells_9 li_1 ?_
    refine lv_goto (tgt := 14) hx hb dX7_cells_10 (by decide) ?_
    exact hj14 (1 : Int32) hf _ _ _ hR hS (lv_sub hl [0] rfl)
noncomputable def f7_burn_j103 (i_h_size : Int32) (i_most : Int32) (a_h_tape : Nat → Int32) (a_y_burns : Nat → Int32) (rr2 : (Option Int32) × Int32 × Int32 × Int32 × Int32 × Int32 × Int32 × Int32 × Int64) (v3 : Int32) (rr6 : (Option Unit) × Int32 × Int32) (j103_s0 : Int32) : Option ((Option Unit) × Int32 × Int32 × Int32 × Int32 × Int32 × Int32 × Int32 × Int64 × (Nat → Int32)) :=
  (f6_mustY j103_s0 (3 : Int32) rr6.2.1 rr6.2.2 rr2.2.2.2.2.1).bind fun rr12 =>
  tr rr12.1 (some (none, rr12.2.1, rr12.2.2, rr2.2.2.2.1, rr2.2.2.2.2.1, rr2.2.2.2.2.2.1, rr2.2.2.2.2.2.2.1, rr2.2.2.2.2.2.2.2.1, rr2.2.2.2.2.2.2.2.2, a_y_burns)) fun v13 =>
  lt ((8 : Int32) * rr2.2.2.2.2.2.2.1) fun v14 =>
  lt (v14 + v3) fun v15 =>
  gd (inb v15 64) <|
  lt (upd a_y_burns v15.toNatClampNeg (vp_nar .boolean (1 : Int32))) fun u17 =>
  (f6_nextY i_h_size i_most rr2.2.2.2.1 rr2.2.2.2.2.1 rr2.2.2.2.2.2.1 rr2.2.2.2.2.2.2.1 rr2.2.2.2.2.2.2.2.1 rr2.2.2.2.2.2.2.2.2 a_h_tape).bind fun rr18 =>
  some ((some ()), rr12.2.1, rr12.2.2, rr18.1, rr18.2.1, rr18.2.2.1, rr18.2.2.2.1, rr18.2.2.2.2.1, rr18.2.2.2.2.2, u17)

noncomputable def f7_burn_j73 (i_h_size : Int32) (i_most : Int32) (a_h_tape : Nat → Int32) (a_y_burns : Nat → Int32) (rr2 : (Option Int32) × Int32 × Int32 × Int32 × Int32 × Int32 × Int32 × Int32 × Int64) (v3 : Int32) (rr4 : (Option Unit) × Int32 × Int32) (j73_s0 : Int32) : Option ((Option Unit) × Int32 × Int32 × Int32 × Int32 × Int32 × Int32 × Int32 × Int64 × (Nat → Int32)) :=
  (f6_mustY j73_s0 (2 : Int32) rr4.2.1 rr4.2.2 rr2.2.2.2.2.1).bind fun rr6 =>
  tr rr6.1 (some (none, rr6.2.1, rr6.2.2, rr2.2.2.2.1, rr2.2.2.2.2.1, rr2.2.2.2.2.2.1, rr2.2.2.2.2.2.2.1, rr2.2.2.2.2.2.2.2.1, rr2.2.2.2.2.2.2.2.2, a_y_burns)) fun v7 =>
  lt ((8 : Int32) * rr2.2.2.2.2.2.2.1) fun v8 =>
  lt (v8 + v3) fun v9 =>
  gd (inb v9 64) <|
  lt (a_y_burns v9.toNatClampNeg) fun v11 =>
  if v11 = 0 then
    f7_burn_j103 i_h_size i_most a_h_tape a_y_burns rr2 v3 rr6 (1 : Int32)
  else
    f7_burn_j103 i_h_size i_most a_h_tape a_y_burns rr2 v3 rr6 (0 : Int32)

noncomputable def f7_burn_j72 (i_h_size : Int32) (i_most : Int32) (a_h_tape : Nat → Int32) (a_y_burns : Nat → Int32) (rr2 : (Option Int32) × Int32 × Int32 × Int32 × Int32 × Int32 × Int32 × Int32 × Int64) (v3 : Int32) (rr4 : (Option Unit) × Int32 × Int32) : Option ((Option Unit) × Int32 × Int32 × Int32 × Int32 × Int32 × Int32 × Int32 × Int64 × (Nat → Int32)) :=
  f7_burn_j73 i_h_size i_most a_h_tape a_y_burns rr2 v3 rr4 (0 : Int32)

noncomputable def f7_burn_j29 (i_h_size : Int32) (i_y_rows : Int32) (i_most : Int32) (a_h_tape : Nat → Int32) (a_y_fuel : Nat → Int32) (a_y_burns : Nat → Int32) (rr2 : (Option Int32) × Int32 × Int32 × Int32 × Int32 × Int32 × Int32 × Int32 × Int64) (v3 : Int32) (j29_s0 : Int32) : Option ((Option Unit) × Int32 × Int32 × Int32 × Int32 × Int32 × Int32 × Int32 × Int64 × (Nat → Int32)) :=
  (f6_mustY j29_s0 (1 : Int32) rr2.2.1 rr2.2.2.1 rr2.2.2.2.2.1).bind fun rr4 =>
  tr rr4.1 (some (none, rr4.2.1, rr4.2.2, rr2.2.2.2.1, rr2.2.2.2.2.1, rr2.2.2.2.2.2.1, rr2.2.2.2.2.2.2.1, rr2.2.2.2.2.2.2.2.1, rr2.2.2.2.2.2.2.2.2, a_y_burns)) fun v5 =>
  if i_y_rows ≤ rr2.2.2.2.2.2.2.1 then
    f7_burn_j72 i_h_size i_most a_h_tape a_y_burns rr2 v3 rr4
  else
    lt ((8 : Int32) * rr2.2.2.2.2.2.2.1) fun v21 =>
    lt (v21 + v3) fun v22 =>
    gd (inb v22 64) <|
    lt (a_y_fuel v22.toNatClampNeg) fun v24 =>
    if v24 ≤ 0 then
      f7_burn_j72 i_h_size i_most a_h_tape a_y_burns rr2 v3 rr4
    else
      f7_burn_j73 i_h_size i_most a_h_tape a_y_burns rr2 v3 rr4 (1 : Int32)

noncomputable def f7_burn (i_h_size : Int32) (i_h2_kind : Int32) (i_h2_place : Int32) (i_y_columns : Int32) (i_y_rows : Int32) (i_most : Int32) (i_p : Int32) (i_at : Int32) (i_token : Int32) (i_value : Int32) (i_many : Int32) (j_name : Int64) (a_h_tape : Nat → Int32) (a_y_fuel : Nat → Int32) (a_y_burns : Nat → Int32) : Option ((Option Unit) × Int32 × Int32 × Int32 × Int32 × Int32 × Int32 × Int32 × Int64 × (Nat → Int32)) :=
  lt (i_y_columns - (1 : Int32)) fun v1 =>
  (f6_numberY (0 : Int32) v1 i_h_size i_h2_kind i_h2_place i_most i_p i_at i_token i_value i_many j_name a_h_tape).bind fun rr2 =>
  tr rr2.1 (some (none, rr2.2.1, rr2.2.2.1, rr2.2.2.2.1, rr2.2.2.2.2.1, rr2.2.2.2.2.2.1, rr2.2.2.2.2.2.2.1, rr2.2.2.2.2.2.2.2.1, rr2.2.2.2.2.2.2.2.2, a_y_burns)) fun v3 =>
  if rr2.2.2.2.2.2.1 = (2 : Int32) then
    f7_burn_j29 i_h_size i_y_rows i_most a_h_tape a_y_fuel a_y_burns rr2 v3 (1 : Int32)
  else
    f7_burn_j29 i_h_size i_y_rows i_most a_h_tape a_y_fuel a_y_burns rr2 v3 (0 : Int32)
set_option maxHeartbeats 4000000 in
theorem m7_burn (l : Launch) (G : gG) (K : gK) (I : gI) (J : gJ) (X : gX) (A : gI) (B : gJ) (Q : gX) (o : Nat) (h : Nat) (y : Nat) (sh_o : Sh K X o 5 rows5) (sh_h : Sh K X h 0 rows0) (sh_y : Sh K X y 3 rows3) (sh_h2 : K (h + 2) = some (.inl 1)) (x_o_thisR : X 507 o = some h) (x_o_y : X 508 o = some y) (x_o_thisO : X 509 o = some h) (x_h_broken : X 4 h = some (h + 2)) (hN_A : nda [(h + 1), (y + 2), (y + 3)])  (i_h_size : Int32) (i_h2_kind : Int32) (i_h2_place : Int32) (i_y_columns : Int32) (i_y_rows : Int32) (i_most : Int32) (i_p : Int32) (i_at : Int32) (i_token : Int32) (i_value : Int32) (i_many : Int32) (j_name : Int64) (a_h_tape : Nat → Int32) (a_y_fuel : Nat → Int32) (a_y_burns : Nat → Int32) (e_i_h_size : I 2 h = i_h_size) (e_i_h2_kind : I 106 (h + 2) = i_h2_kind) (e_i_h2_place : I 107 (h + 2) = i_h2_place) (e_i_y_columns : I 304 y = i_y_columns) (e_i_y_rows : I 305 y = i_y_rows) (e_i_most : I 500 o = i_most) (e_i_p : I 501 o = i_p) (e_i_at : I 502 o = i_at) (e_i_token : I 503 o = i_token) (e_i_value : I 504 o = i_value) (e_i_many : I 505 o = i_many) (e_j_name : J 506 o = j_name) (e_a_h_tape : A (h + 1) = a_h_tape) (e_a_y_fuel : A (y + 2) = a_y_fuel) (e_a_y_burns : A (y + 3) = a_y_burns) (out : (Option Unit) × Int32 × Int32 × Int32 × Int32 × Int32 × Int32 × Int32 × Int64 × (Nat → Int32)) (hf : f7_burn i_h_size i_h2_kind i_h2_place i_y_columns i_y_rows i_most i_p i_at i_token i_value i_many j_name a_h_tape a_y_fuel a_y_burns = some out) : GMetX l yX7_burn cX7_burn 2 none (5) (109) G [.ref o] K I J X A B Q (xo "PailRow$Fault" (h + 2) (Option.map (fun _ => none) out.1)) K (ov I [(106, (h + 2), out.2.1), (107, (h + 2), out.2.2.1), (501, o, out.2.2.2.1), (502, o, out.2.2.2.2.1), (503, o, out.2.2.2.2.2.1), (504, o, out.2.2.2.2.2.2.1), (505, o, out.2.2.2.2.2.2.2.1)]) (ov J [(506, o, out.2.2.2.2.2.2.2.2.1)]) X (ova A [((h + 1), a_h_tape), ((y + 2), a_y_fuel), ((y + 3), out.2.2.2.2.2.2.2.2.2)]) B Q 0 0 := by
  refine GMetX.of (y := yX7_burn) rfl (Nat.le_of_ble_eq_true rfl) rfl ?_
  intro p e s m below meth c ls hx hb hr hml hlocks hts hown hname ht hG hR hW hl
  have hown : s.vm.findClass RX7 = some m.cls := hown
  have k_a_h_tape : K (h + 1) = some (.inr (2, 740)) := (sh_h.2 0 _ rfl).1
  have k_a_y_fuel : K (y + 2) = some (.inr (0, 64)) := (sh_y.2 1 _ rfl).1
  have k_a_y_burns : K (y + 3) = some (.inr (1, 64)) := (sh_y.2 2 _ rfl).1
  have hR : RS G K (ov I [(106, (h + 2), i_h2_kind), (107, (h + 2), i_h2_place), (501, o, i_p), (502, o, i_at), (503, o, i_token), (504, o, i_value), (505, o, i_many)]) (ov J [(506, o, j_name)]) X (ova A [((h + 1), a_h_tape), ((y + 2), a_y_fuel), ((y + 3), a_y_burns)]) B Q s.heap := hR.to (Eq.symm (ov_sc e_i_h2_kind (ov_sc e_i_h2_place (ov_sc e_i_p (ov_sc e_i_at (ov_sc e_i_token (ov_sc e_i_value (ov_sc e_i_many rfl)))))))) (Eq.symm (ov_sc e_j_name rfl)) rfl (Eq.symm (ova_sc e_a_h_tape (ova_sc e_a_y_fuel (ova_sc e_a_y_burns rfl)))) rfl rfl
  have hS : va_S (gA G) s.heap s.heap [] := va_S.rf
  have hend : ∀ (v : Unit), out.1 = some v → ∀ (pc : Nat) (H : Heap) (locs : List Loc) (ls : Array Slot), decode cX7_burn pc = .ok (.return_, 1) → RS G K (ov I [(106, (h + 2), out.2.1), (107, (h + 2), out.2.2.1), (501, o, out.2.2.2.1), (502, o, out.2.2.2.2.1), (503, o, out.2.2.2.2.2.1), (504, o, out.2.2.2.2.2.2.1), (505, o, out.2.2.2.2.2.2.2.1)]) (ov J [(506, o, out.2.2.2.2.2.2.2.2.1)]) X (ova A [((h + 1), a_h_tape), ((y + 2), a_y_fuel), ((y + 3), out.2.2.2.2.2.2.2.2.2)]) B Q H → va_S (gA G) s.heap H locs → W p l e ({ frames := 5, cells := 0, slots := 0, locals := 109 } : Room) s m ([.ref o] : List Value).toArray below meth c H locs 0 0 (vx_MQ below (xQ G (xo "PailRow$Fault" (h + 2) (Option.map (fun _ => none) out.1)) K (ov I [(106, (h + 2), out.2.1), (107, (h + 2), out.2.2.1), (501, o, out.2.2.2.1), (502, o, out.2.2.2.2.1), (503, o, out.2.2.2.2.2.1), (504, o, out.2.2.2.2.2.2.1), (505, o, out.2.2.2.2.2.2.2.1)]) (ov J [(506, o, out.2.2.2.2.2.2.2.2.1)]) X (ova A [((h + 1), a_h_tape), ((y + 2), a_y_fuel), ((y + 3), out.2.2.2.2.2.2.2.2.2)]) B Q) (xX G (xo "PailRow$Fault" (h + 2) (Option.map (fun _ => none) out.1)) K (ov I [(106, (h + 2), out.2.1), (107, (h + 2), out.2.2.1), (501, o, out.2.2.2.1), (502, o, out.2.2.2.2.1), (503, o, out.2.2.2.2.2.1), (504, o, out.2.2.2.2.2.2.1), (505, o, out.2.2.2.2.2.2.2.1)]) (ov J [(506, o, out.2.2.2.2.2.2.2.2.1)]) X (ova A [((h + 1), a_h_tape), ((y + 2), a_y_fuel), ((y + 3), out.2.2.2.2.2.2.2.2.2)]) B Q) ([.ref o] : List Value).toArray s 0 0 (gA G)) (F0 m pc ls []) := fun v hv pc H locs ls hd hR hS => x_vret hx hb hr hlocks hG hR hS (by rw [hv]; rfl) hd
  have hthr : out.1 = none → ∀ (pc : Nat) (H : Heap) (locs : List Loc) (ls : Array Slot) (rest : List Value), RS G K (ov I [(106, (h + 2), out.2.1), (107, (h + 2), out.2.2.1), (501, o, out.2.2.2.1), (502, o, out.2.2.2.2.1), (503, o, out.2.2.2.2.2.1), (504, o, out.2.2.2.2.2.2.1), (505, o, out.2.2.2.2.2.2.2.1)]) (ov J [(506, o, out.2.2.2.2.2.2.2.2.1)]) X (ova A [((h + 1), a_h_tape), ((y + 2), a_y_fuel), ((y + 3), out.2.2.2.2.2.2.2.2.2)]) B Q H → va_S (gA G) s.heap H locs → vx_W p l e ({ frames := 5, cells := 0, slots := 0, locals := 109 } : Room) s m ([.ref o] : List Value).toArray below meth c H locs 0 0 (vx_MQ below (xQ G (xo "PailRow$Fault" (h + 2) (Option.map (fun _ => none) out.1)) K (ov I [(106, (h + 2), out.2.1), (107, (h + 2), out.2.2.1), (501, o, out.2.2.2.1), (502, o, out.2.2.2.2.1), (503, o, out.2.2.2.2.2.1), (504, o, out.2.2.2.2.2.2.1), (505, o, out.2.2.2.2.2.2.2.1)]) (ov J [(506, o, out.2.2.2.2.2.2.2.2.1)]) X (ova A [((h + 1), a_h_tape), ((y + 2), a_y_fuel), ((y + 3), out.2.2.2.2.2.2.2.2.2)]) B Q) (xX G (xo "PailRow$Fault" (h + 2) (Option.map (fun _ => none) out.1)) K (ov I [(106, (h + 2), out.2.1), (107, (h + 2), out.2.2.1), (501, o, out.2.2.2.1), (502, o, out.2.2.2.2.1), (503, o, out.2.2.2.2.2.1), (504, o, out.2.2.2.2.2.2.1), (505, o, out.2.2.2.2.2.2.2.1)]) (ov J [(506, o, out.2.2.2.2.2.2.2.2.1)]) X (ova A [((h + 1), a_h_tape), ((y + 2), a_y_fuel), ((y + 3), out.2.2.2.2.2.2.2.2.2)]) B Q) ([.ref o] : List Value).toArray s 0 0 (gA G)) (F0 m pc ls rest) (h + 2) := fun hn pc H locs ls rest hR hS => x_out (ci := 1) ht hlocks hG hR hS sh_h2 rfl (by rw [hn]; rfl)
  generalize vx_MQ below (xQ G (xo "PailRow$Fault" (h + 2) (Option.map (fun _ => none) out.1)) K (ov I [(106, (h + 2), out.2.1), (107, (h + 2), out.2.2.1), (501, o, out.2.2.2.1), (502, o, out.2.2.2.2.1), (503, o, out.2.2.2.2.2.1), (504, o, out.2.2.2.2.2.2.1), (505, o, out.2.2.2.2.2.2.2.1)]) (ov J [(506, o, out.2.2.2.2.2.2.2.2.1)]) X (ova A [((h + 1), a_h_tape), ((y + 2), a_y_fuel), ((y + 3), out.2.2.2.2.2.2.2.2.2)]) B Q) (xX G (xo "PailRow$Fault" (h + 2) (Option.map (fun _ => none) out.1)) K (ov I [(106, (h + 2), out.2.1), (107, (h + 2), out.2.2.1), (501, o, out.2.2.2.1), (502, o, out.2.2.2.2.1), (503, o, out.2.2.2.2.2.1), (504, o, out.2.2.2.2.2.2.1), (505, o, out.2.2.2.2.2.2.2.1)]) (ov J [(506, o, out.2.2.2.2.2.2.2.2.1)]) X (ova A [((h + 1), a_h_tape), ((y + 2), a_y_fuel), ((y + 3), out.2.2.2.2.2.2.2.2.2)]) B Q) ([.ref o] : List Value).toArray s 0 0 (gA G) = Z at hend hthr ⊢
  generalize ([.ref o] : List Value).toArray = args at hts hend hthr ⊢
  unfold f7_burn at hf
  refine lv_aload_n hx hb dX7_burn_0 rfl (lv_at hl 0 rfl) ?_
  refine lv_iconst (v := 0) hx hb dX7_burn_1 li_0 ?_
  refine lv_aload_n hx hb dX7_burn_2 rfl (lv_at hl 0 rfl) ?_
  refine g_getr (b := y) hx hb hts hown hG hR gFx_X7_15_5 sh_o.1 x_o_y dX7_burn_3 ?_
  refine n_geti (v := i_y_columns) hx hb hts hown hG hR gFi_X7_123_3 sh_y.1 ((congrFun (ov_no rfl) _).trans e_i_y_columns) dX7_burn_6 ?_
  refine lv_iconst (v := 1) hx hb dX7_burn_9 li_1 ?_
  obtain ⟨v1, ev1, hf⟩ := lt_some hf
  refine n_isub hx hb ev1 dX7_burn_10 ?_
  obtain ⟨rr2, hrr2, hf⟩ := bind_s hf
  refine x0_goi (vx_runU (As := [.int (0 : Int32), .int v1]) (rest := []) (b := o) ⟨hx, hb, hml, hown, hts⟩ (m6_numberY l G K (ov I [(106, (h + 2), i_h2_kind), (107, (h + 2), i_h2_place), (501, o, i_p), (502, o, i_at), (503, o, i_token), (504, o, i_value), (505, o, i_many)]) (ov J [(506, o, j_name)]) X (ova A [((h + 1), a_h_tape), ((y + 2), a_y_fuel), ((y + 3), a_y_burns)]) B Q o h sh_o sh_h sh_h2 x_o_thisR x_h_broken (0 : Int32) v1 i_h_size i_h2_kind i_h2_place i_most i_p i_at i_token i_value i_many j_name a_h_tape ((congrFun (ov_no rfl) _).trans e_i_h_size) (ov_get 0 rfl rfl) (ov_get 1 rfl rfl) ((congrFun (ov_no rfl) _).trans e_i_most) (ov_get 2 rfl rfl) (ov_get 3 rfl rfl) (ov_get 4 rfl rfl) (ov_get 5 rfl rfl) (ov_get 6 rfl rfl) (ov_get 0 rfl rfl) (ova_get 0 hN_A rfl) rr2 hrr2) (va_cwU (x := ⟨"PailRow$YardReader", "number", "(II)I"⟩) (owner := "PailRow$Reader") 2 hts gu_X7_60_5 rfl rfl rfl rfl ⟨by decide, by decide, (hd_X6_number.2).2.2⟩ ⟨Nat.le_of_ble_eq_true rfl, Nat.le_of_ble_eq_true rfl⟩) (x_preV hG hR hW hS sh_o.1 rfl) rfl rfl hl.1 rfl (lv_room (Nat.le_of_ble_eq_true rfl)) dX7_burn_11 ⟨Nat.le_refl _, Nat.le_refl _⟩) hS (fun H locs hnv3 hR hS => ?_) (fun v3 H locs hvv3 hR hS => ?_)
  · have hf := tr_n hnv3 hf
    have hR : RS G K (ov I [(106, (h + 2), rr2.2.1), (107, (h + 2), rr2.2.2.1), (501, o, rr2.2.2.2.1), (502, o, rr2.2.2.2.2.1), (503, o, rr2.2.2.2.2.2.1), (504, o, rr2.2.2.2.2.2.2.1), (505, o, rr2.2.2.2.2.2.2.2.1)]) (ov J [(506, o, rr2.2.2.2.2.2.2.2.2)]) X (ova A [((h + 1), a_h_tape), ((y + 2), a_y_fuel), ((y + 3), a_y_burns)]) B Q H := hR.to (ov_over (l := [(106, (h + 2), i_h2_kind), (107, (h + 2), i_h2_place), (501, o, i_p), (502, o, i_at), (503, o, i_token), (504, o, i_value), (505, o, i_many)]) rfl) (ov_merge (l := [(506, o, j_name)]) rfl [0] [(506, o, rr2.2.2.2.2.2.2.2.2)] rfl rfl) rfl rfl rfl rfl
    obtain rfl := some_i hf
    exact hthr rfl _ _ _ _ _ hR hS
  have hf := tr_s hvv3 hf
  have hR : RS G K (ov I [(106, (h + 2), rr2.2.1), (107, (h + 2), rr2.2.2.1), (501, o, rr2.2.2.2.1), (502, o, rr2.2.2.2.2.1), (503, o, rr2.2.2.2.2.2.1), (504, o, rr2.2.2.2.2.2.2.1), (505, o, rr2.2.2.2.2.2.2.2.1)]) (ov J [(506, o, rr2.2.2.2.2.2.2.2.2)]) X (ova A [((h + 1), a_h_tape), ((y + 2), a_y_fuel), ((y + 3), a_y_burns)]) B Q H := hR.to (ov_over (l := [(106, (h + 2), i_h2_kind), (107, (h + 2), i_h2_place), (501, o, i_p), (502, o, i_at), (503, o, i_token), (504, o, i_value), (505, o, i_many)]) rfl) (ov_merge (l := [(506, o, j_name)]) rfl [0] [(506, o, rr2.2.2.2.2.2.2.2.2)] rfl rfl) rfl rfl rfl rfl
  refine lv_istore_n (lv' := [(1, .int v3), (0, .ref o)]) hx hb dX7_burn_14 rfl hl (by decide) rfl (fun ls hl => ?_)
  refine lv_aload_n hx hb dX7_burn_15 rfl (lv_at hl 1 rfl) ?_
  refine lv_aload_n hx hb dX7_burn_16 rfl (lv_at hl 1 rfl) ?_
  refine n_geti (v := rr2.2.2.2.2.2.1) hx hb hts hown hG hR gFi_X7_23_5 sh_o.1 (ov_get 4 rfl rfl) dX7_burn_17 ?_
  refine lv_iconst (v := 2) hx hb dX7_burn_20 li_2 ?_
  have hj29 : ∀ (j29_s0 : Int32), f7_burn_j29 i_h_size i_y_rows i_most a_h_tape a_y_fuel a_y_burns rr2 v3 j29_s0 = some out → ∀ (H : Heap) (locs : List Loc) (ls : Array Slot), RS G K (ov I [(106, (h + 2), rr2.2.1), (107, (h + 2), rr2.2.2.1), (501, o, rr2.2.2.2.1), (502, o, rr2.2.2.2.2.1), (503, o, rr2.2.2.2.2.2.1), (504, o, rr2.2.2.2.2.2.2.1), (505, o, rr2.2.2.2.2.2.2.2.1)]) (ov J [(506, o, rr2.2.2.2.2.2.2.2.2)]) X (ova A [((h + 1), a_h_tape), ((y + 2), a_y_fuel), ((y + 3), a_y_burns)]) B Q H → va_S (gA G) s.heap H locs → lv_has ls 2 [(0, .ref o), (1, .int v3)] → W p l e ({ frames := 5, cells := 0, slots := 0, locals := 109 } : Room) s m args below meth c H locs 0 0 Z (F0 m 29 ls [.int j29_s0, .ref o]) := by
    intro j29_s0 hf H locs ls hR hS hl
    unfold f7_burn_j29 at hf
    refine lv_iconst (v := 1) hx hb dX7_burn_29 li_1 ?_
    obtain ⟨rr4, hrr4, hf⟩ := bind_s hf
    refine x0_gou (vx_runU (As := [.int j29_s0, .int (1 : Int32)]) (rest := []) (b := o) ⟨hx, hb, hml, hown, hts⟩ (m6_mustY l G K (ov I [(106, (h + 2), rr2.2.1), (107, (h + 2), rr2.2.2.1), (501, o, rr2.2.2.2.1), (502, o, rr2.2.2.2.2.1), (503, o, rr2.2.2.2.2.2.1), (504, o, rr2.2.2.2.2.2.2.1), (505, o, rr2.2.2.2.2.2.2.2.1)]) (ov J [(506, o, rr2.2.2.2.2.2.2.2.2)]) X (ova A [((h + 1), a_h_tape), ((y + 2), a_y_fuel), ((y + 3), a_y_burns)]) B Q o h sh_o sh_h sh_h2 x_o_thisR x_h_broken j29_s0 (1 : Int32) rr2.2.1 rr2.2.2.1 rr2.2.2.2.2.1 (ov_get 0 rfl rfl) (ov_get 1 rfl rfl) (ov_get 3 rfl rfl) rr4 hrr4) (va_cwU (x := ⟨"PailRow$YardReader", "must", "(ZI)V"⟩) (owner := "PailRow$Reader") 2 hts gu_X7_35_5 rfl rfl rfl rfl ⟨by decide, by decide, (hd_X6_must.2).2.2⟩ ⟨Nat.le_of_ble_eq_true rfl, Nat.le_of_ble_eq_true rfl⟩) (x_preV hG hR hW hS sh_o.1 rfl) rfl rfl hl.1 rfl (lv_room (Nat.le_of_ble_eq_true rfl)) dX7_burn_30 ⟨Nat.le_refl _, Nat.le_refl _⟩) hS (fun H locs hnv5 hR hS => ?_) (fun v5 H locs hvv5 hR hS => ?_)
    · have hf := tr_n hnv5 hf
      have hR : RS G K (ov I [(106, (h + 2), rr4.2.1), (107, (h + 2), rr4.2.2), (501, o, rr2.2.2.2.1), (502, o, rr2.2.2.2.2.1), (503, o, rr2.2.2.2.2.2.1), (504, o, rr2.2.2.2.2.2.2.1), (505, o, rr2.2.2.2.2.2.2.2.1)]) (ov J [(506, o, rr2.2.2.2.2.2.2.2.2)]) X (ova A [((h + 1), a_h_tape), ((y + 2), a_y_fuel), ((y + 3), a_y_burns)]) B Q H := hR.to (ov_merge (l := [(106, (h + 2), rr2.2.1), (107, (h + 2), rr2.2.2.1), (501, o, rr2.2.2.2.1), (502, o, rr2.2.2.2.2.1), (503, o, rr2.2.2.2.2.2.1), (504, o, rr2.2.2.2.2.2.2.1), (505, o, rr2.2.2.2.2.2.2.2.1)]) rfl [0, 1] [(106, (h + 2), rr4.2.1), (107, (h + 2), rr4.2.2)] rfl rfl) rfl rfl rfl rfl rfl
      obtain rfl := some_i hf
      exact hthr rfl _ _ _ _ _ hR hS
    have hf := tr_s hvv5 hf
    have hR : RS G K (ov I [(106, (h + 2), rr4.2.1), (107, (h + 2), rr4.2.2), (501, o, rr2.2.2.2.1), (502, o, rr2.2.2.2.2.1), (503, o, rr2.2.2.2.2.2.1), (504, o, rr2.2.2.2.2.2.2.1), (505, o, rr2.2.2.2.2.2.2.2.1)]) (ov J [(506, o, rr2.2.2.2.2.2.2.2.2)]) X (ova A [((h + 1), a_h_tape), ((y + 2), a_y_fuel), ((y + 3), a_y_burns)]) B Q H := hR.to (ov_merge (l := [(106, (h + 2), rr2.2.1), (107, (h + 2), rr2.2.2.1), (501, o, rr2.2.2.2.1), (502, o, rr2.2.2.2.2.1), (503, o, rr2.2.2.2.2.2.1), (504, o, rr2.2.2.2.2.2.2.1), (505, o, rr2.2.2.2.2.2.2.2.1)]) rfl [0, 1] [(106, (h + 2), rr4.2.1), (107, (h + 2), rr4.2.2)] rfl rfl) rfl rfl rfl rfl rfl
    refine lv_aload_n hx hb dX7_burn_33 rfl (lv_at hl 0 rfl) ?_
    refine lv_aload_n hx hb dX7_burn_34 rfl (lv_at hl 0 rfl) ?_
    refine n_geti (v := rr2.2.2.2.2.2.2.1) hx hb hts hown hG hR gFi_X7_137_5 sh_o.1 (ov_get 5 rfl rfl) dX7_burn_35 ?_
    refine lv_aload_n hx hb dX7_burn_38 rfl (lv_at hl 0 rfl) ?_
    refine g_getr (b := y) hx hb hts hown hG hR gFx_X7_15_5 sh_o.1 x_o_y dX7_burn_39 ?_
    refine n_geti (v := i_y_rows) hx hb hts hown hG hR gFi_X7_44_3 sh_y.1 ((congrFun (ov_no rfl) _).trans e_i_y_rows) dX7_burn_42 ?_
    have hj73 : ∀ (j73_s0 : Int32), f7_burn_j73 i_h_size i_most a_h_tape a_y_burns rr2 v3 rr4 j73_s0 = some out → ∀ (H : Heap) (locs : List Loc) (ls : Array Slot), RS G K (ov I [(106, (h + 2), rr4.2.1), (107, (h + 2), rr4.2.2), (501, o, rr2.2.2.2.1), (502, o, rr2.2.2.2.2.1), (503, o, rr2.2.2.2.2.2.1), (504, o, rr2.2.2.2.2.2.2.1), (505, o, rr2.2.2.2.2.2.2.2.1)]) (ov J [(506, o, rr2.2.2.2.2.2.2.2.2)]) X (ova A [((h + 1), a_h_tape), ((y + 2), a_y_fuel), ((y + 3), a_y_burns)]) B Q H → va_S (gA G) s.heap H locs → lv_has ls 2 [(0, .ref o), (1, .int v3)] → W p l e ({ frames := 5, cells := 0, slots := 0, locals := 109 } : Room) s m args below meth c H locs 0 0 Z (F0 m 73 ls [.int j73_s0, .ref o]) := by
      intro j73_s0 hf H locs ls hR hS hl
      unfold f7_burn_j73 at hf
      refine lv_iconst (v := 2) hx hb dX7_burn_73 li_2 ?_
      obtain ⟨rr6, hrr6, hf⟩ := bind_s hf
      refine x0_gou (vx_runU (As := [.int j73_s0, .int (2 : Int32)]) (rest := []) (b := o) ⟨hx, hb, hml, hown, hts⟩ (m6_mustY l G K (ov I [(106, (h + 2), rr4.2.1), (107, (h + 2), rr4.2.2), (501, o, rr2.2.2.2.1), (502, o, rr2.2.2.2.2.1), (503, o, rr2.2.2.2.2.2.1), (504, o, rr2.2.2.2.2.2.2.1), (505, o, rr2.2.2.2.2.2.2.2.1)]) (ov J [(506, o, rr2.2.2.2.2.2.2.2.2)]) X (ova A [((h + 1), a_h_tape), ((y + 2), a_y_fuel), ((y + 3), a_y_burns)]) B Q o h sh_o sh_h sh_h2 x_o_thisR x_h_broken j73_s0 (2 : Int32) rr4.2.1 rr4.2.2 rr2.2.2.2.2.1 (ov_get 0 rfl rfl) (ov_get 1 rfl rfl) (ov_get 3 rfl rfl) rr6 hrr6) (va_cwU (x := ⟨"PailRow$YardReader", "must", "(ZI)V"⟩) (owner := "PailRow$Reader") 2 hts gu_X7_35_5 rfl rfl rfl rfl ⟨by decide, by decide, (hd_X6_must.2).2.2⟩ ⟨Nat.le_of_ble_eq_true rfl, Nat.le_of_ble_eq_true rfl⟩) (x_preV hG hR hW hS sh_o.1 rfl) rfl rfl hl.1 rfl (lv_room (Nat.le_of_ble_eq_true rfl)) dX7_burn_74 ⟨Nat.le_refl _, Nat.le_refl _⟩) hS (fun H locs hnv7 hR hS => ?_) (fun v7 H locs hvv7 hR hS => ?_)
      · have hf := tr_n hnv7 hf
        have hR : RS G K (ov I [(106, (h + 2), rr6.2.1), (107, (h + 2), rr6.2.2), (501, o, rr2.2.2.2.1), (502, o, rr2.2.2.2.2.1), (503, o, rr2.2.2.2.2.2.1), (504, o, rr2.2.2.2.2.2.2.1), (505, o, rr2.2.2.2.2.2.2.2.1)]) (ov J [(506, o, rr2.2.2.2.2.2.2.2.2)]) X (ova A [((h + 1), a_h_tape), ((y + 2), a_y_fuel), ((y + 3), a_y_burns)]) B Q H := hR.to (ov_merge (l := [(106, (h + 2), rr4.2.1), (107, (h + 2), rr4.2.2), (501, o, rr2.2.2.2.1), (502, o, rr2.2.2.2.2.1), (503, o, rr2.2.2.2.2.2.1), (504, o, rr2.2.2.2.2.2.2.1), (505, o, rr2.2.2.2.2.2.2.2.1)]) rfl [0, 1] [(106, (h + 2), rr6.2.1), (107, (h + 2), rr6.2.2)] rfl rfl) rfl rfl rfl rfl rfl
        obtain rfl := some_i hf
        exact hthr rfl _ _ _ _ _ hR hS
      have hf := tr_s hvv7 hf
      have hR : RS G K (ov I [(106, (h + 2), rr6.2.1), (107, (h + 2), rr6.2.2), (501, o, rr2.2.2.2.1), (502, o, rr2.2.2.2.2.1), (503, o, rr2.2.2.2.2.2.1), (504, o, rr2.2.2.2.2.2.2.1), (505, o, rr2.2.2.2.2.2.2.2.1)]) (ov J [(506, o, rr2.2.2.2.2.2.2.2.2)]) X (ova A [((h + 1), a_h_tape), ((y + 2), a_y_fuel), ((y + 3), a_y_burns)]) B Q H := hR.to (ov_merge (l := [(106, (h + 2), rr4.2.1), (107, (h + 2), rr4.2.2), (501, o, rr2.2.2.2.1), (502, o, rr2.2.2.2.2.1), (503, o, rr2.2.2.2.2.2.1), (504, o, rr2.2.2.2.2.2.2.1), (505, o, rr2.2.2.2.2.2.2.2.1)]) rfl [0, 1] [(106, (h + 2), rr6.2.1), (107, (h + 2), rr6.2.2)] rfl rfl) rfl rfl rfl rfl rfl
      refine lv_aload_n hx hb dX7_burn_77 rfl (lv_at hl 0 rfl) ?_
      refine lv_aload_n hx hb dX7_burn_78 rfl (lv_at hl 0 rfl) ?_
      refine g_getr (b := y) hx hb hts hown hG hR gFx_X7_15_5 sh_o.1 x_o_y dX7_burn_79 ?_
      refine g_getr (b := (y + 3)) hx hb hts hown hG hR gFx_X7_140_3 sh_y.1 ((sh_y.2 2 _ rfl).2) dX7_burn_82 ?_
      refine lv_bipush (v := 8) hx hb dX7_burn_85 lb_8 ?_
      refine lv_aload_n hx hb dX7_burn_87 rfl (lv_at hl 0 rfl) ?_
      refine n_geti (v := rr2.2.2.2.2.2.2.1) hx hb hts hown hG hR gFi_X7_137_5 sh_o.1 (ov_get 5 rfl rfl) dX7_burn_88 ?_
      obtain ⟨v8, ev8, hf⟩ := lt_some hf
      refine n_imul hx hb ev8 dX7_burn_91 ?_
      refine lv_iload_n hx hb dX7_burn_92 rfl (lv_at hl 1 rfl) ?_
      obtain ⟨v9, ev9, hf⟩ := lt_some hf
      refine n_iadd hx hb ev9 dX7_burn_93 ?_
      obtain ⟨c10, hf⟩ := gd_some hf
      obtain ⟨v11, ev11, hf⟩ := lt_some hf
      refine n_zald (x := a_y_burns) hx hb hG hR k_a_y_burns c10 (ova_get 2 hN_A rfl) ev11 dX7_burn_94 ?_
      have hj103 : ∀ (j103_s0 : Int32), f7_burn_j103 i_h_size i_most a_h_tape a_y_burns rr2 v3 rr6 j103_s0 = some out → ∀ (H : Heap) (locs : List Loc) (ls : Array Slot), RS G K (ov I [(106, (h + 2), rr6.2.1), (107, (h + 2), rr6.2.2), (501, o, rr2.2.2.2.1), (502, o, rr2.2.2.2.2.1), (503, o, rr2.2.2.2.2.2.1), (504, o, rr2.2.2.2.2.2.2.1), (505, o, rr2.2.2.2.2.2.2.2.1)]) (ov J [(506, o, rr2.2.2.2.2.2.2.2.2)]) X (ova A [((h + 1), a_h_tape), ((y + 2), a_y_fuel), ((y + 3), a_y_burns)]) B Q H → va_S (gA G) s.heap H locs → lv_has ls 2 [(0, .ref o), (1, .int v3)] → W p l e ({ frames := 5, cells := 0, slots := 0, locals := 109 } : Room) s m args below meth c H locs 0 0 Z (F0 m 103 ls [.int j103_s0, .ref o]) := by
        intro j103_s0 hf H locs ls hR hS hl
        unfold f7_burn_j103 at hf
        refine lv_iconst (v := 3) hx hb dX7_burn_103 li_3 ?_
        obtain ⟨rr12, hrr12, hf⟩ := bind_s hf
        refine x0_gou (vx_runU (As := [.int j103_s0, .int (3 : Int32)]) (rest := []) (b := o) ⟨hx, hb, hml, hown, hts⟩ (m6_mustY l G K (ov I [(106, (h + 2), rr6.2.1), (107, (h + 2), rr6.2.2), (501, o, rr2.2.2.2.1), (502, o, rr2.2.2.2.2.1), (503, o, rr2.2.2.2.2.2.1), (504, o, rr2.2.2.2.2.2.2.1), (505, o, rr2.2.2.2.2.2.2.2.1)]) (ov J [(506, o, rr2.2.2.2.2.2.2.2.2)]) X (ova A [((h + 1), a_h_tape), ((y + 2), a_y_fuel), ((y + 3), a_y_burns)]) B Q o h sh_o sh_h sh_h2 x_o_thisR x_h_broken j103_s0 (3 : Int32) rr6.2.1 rr6.2.2 rr2.2.2.2.2.1 (ov_get 0 rfl rfl) (ov_get 1 rfl rfl) (ov_get 3 rfl rfl) rr12 hrr12) (va_cwU (x := ⟨"PailRow$YardReader", "must", "(ZI)V"⟩) (owner := "PailRow$Reader") 2 hts gu_X7_35_5 rfl rfl rfl rfl ⟨by decide, by decide, (hd_X6_must.2).2.2⟩ ⟨Nat.le_of_ble_eq_true rfl, Nat.le_of_ble_eq_true rfl⟩) (x_preV hG hR hW hS sh_o.1 rfl) rfl rfl hl.1 rfl (lv_room (Nat.le_of_ble_eq_true rfl)) dX7_burn_104 ⟨Nat.le_refl _, Nat.le_refl _⟩) hS (fun H locs hnv13 hR hS => ?_) (fun v13 H locs hvv13 hR hS => ?_)
        · have hf := tr_n hnv13 hf
          have hR : RS G K (ov I [(106, (h + 2), rr12.2.1), (107, (h + 2), rr12.2.2), (501, o, rr2.2.2.2.1), (502, o, rr2.2.2.2.2.1), (503, o, rr2.2.2.2.2.2.1), (504, o, rr2.2.2.2.2.2.2.1), (505, o, rr2.2.2.2.2.2.2.2.1)]) (ov J [(506, o, rr2.2.2.2.2.2.2.2.2)]) X (ova A [((h + 1), a_h_tape), ((y + 2), a_y_fuel), ((y + 3), a_y_burns)]) B Q H := hR.to (ov_merge (l := [(106, (h + 2), rr6.2.1), (107, (h + 2), rr6.2.2), (501, o, rr2.2.2.2.1), (502, o, rr2.2.2.2.2.1), (503, o, rr2.2.2.2.2.2.1), (504, o, rr2.2.2.2.2.2.2.1), (505, o, rr2.2.2.2.2.2.2.2.1)]) rfl [0, 1] [(106, (h + 2), rr12.2.1), (107, (h + 2), rr12.2.2)] rfl rfl) rfl rfl rfl rfl rfl
          obtain rfl := some_i hf
          exact hthr rfl _ _ _ _ _ hR hS
        have hf := tr_s hvv13 hf
        have hR : RS G K (ov I [(106, (h + 2), rr12.2.1), (107, (h + 2), rr12.2.2), (501, o, rr2.2.2.2.1), (502, o, rr2.2.2.2.2.1), (503, o, rr2.2.2.2.2.2.1), (504, o, rr2.2.2.2.2.2.2.1), (505, o, rr2.2.2.2.2.2.2.2.1)]) (ov J [(506, o, rr2.2.2.2.2.2.2.2.2)]) X (ova A [((h + 1), a_h_tape), ((y + 2), a_y_fuel), ((y + 3), a_y_burns)]) B Q H := hR.to (ov_merge (l := [(106, (h + 2), rr6.2.1), (107, (h + 2), rr6.2.2), (501, o, rr2.2.2.2.1), (502, o, rr2.2.2.2.2.1), (503, o, rr2.2.2.2.2.2.1), (504, o, rr2.2.2.2.2.2.2.1), (505, o, rr2.2.2.2.2.2.2.2.1)]) rfl [0, 1] [(106, (h + 2), rr12.2.1), (107, (h + 2), rr12.2.2)] rfl rfl) rfl rfl rfl rfl rfl
        refine lv_aload_n hx hb dX7_burn_107 rfl (lv_at hl 0 rfl) ?_
        refine g_getr (b := y) hx hb hts hown hG hR gFx_X7_15_5 sh_o.1 x_o_y dX7_burn_108 ?_
        refine g_getr (b := (y + 3)) hx hb hts hown hG hR gFx_X7_140_3 sh_y.1 ((sh_y.2 2 _ rfl).2) dX7_burn_111 ?_
        refine lv_bipush (v := 8) hx hb dX7_burn_114 lb_8 ?_
        refine lv_aload_n hx hb dX7_burn_116 rfl (lv_at hl 0 rfl) ?_
        refine n_geti (v := rr2.2.2.2.2.2.2.1) hx hb hts hown hG hR gFi_X7_137_5 sh_o.1 (ov_get 5 rfl rfl) dX7_burn_117 ?_
        obtain ⟨v14, ev14, hf⟩ := lt_some hf
        refine n_imul hx hb ev14 dX7_burn_120 ?_
        refine lv_iload_n hx hb dX7_burn_121 rfl (lv_at hl 1 rfl) ?_
        obtain ⟨v15, ev15, hf⟩ := lt_some hf
        refine n_iadd hx hb ev15 dX7_burn_122 ?_
        refine lv_iconst (v := 1) hx hb dX7_burn_123 li_1 ?_
        obtain ⟨c16, hf⟩ := gd_some hf
        obtain ⟨u17, eu17, hf⟩ := lt_some hf
        refine n_zast (la' := [((h + 1), a_h_tape), ((y + 2), a_y_fuel), ((y + 3), u17)]) hx hb hG hR hS k_a_y_burns c16 hN_A 2 rfl eu17 rfl dX7_burn_124 (fun H locs hR hS => ?_)
        refine lv_aload_n hx hb dX7_burn_125 rfl (lv_at hl 0 rfl) ?_
        obtain ⟨rr18, hrr18, hf⟩ := bind_s hf
        refine g0_cUv (rm := (3, 65)) (As := []) (rest := []) ⟨hx, hb, hml, hown, hts⟩ hG hR hS (m6_nextY l G K (ov I [(106, (h + 2), rr12.2.1), (107, (h + 2), rr12.2.2), (501, o, rr2.2.2.2.1), (502, o, rr2.2.2.2.2.1), (503, o, rr2.2.2.2.2.2.1), (504, o, rr2.2.2.2.2.2.2.1), (505, o, rr2.2.2.2.2.2.2.2.1)]) (ov J [(506, o, rr2.2.2.2.2.2.2.2.2)]) X (ova A [((h + 1), a_h_tape), ((y + 2), a_y_fuel), ((y + 3), u17)]) B Q o h sh_o sh_h x_o_thisR i_h_size i_most rr2.2.2.2.1 rr2.2.2.2.2.1 rr2.2.2.2.2.2.1 rr2.2.2.2.2.2.2.1 rr2.2.2.2.2.2.2.2.1 rr2.2.2.2.2.2.2.2.2 a_h_tape ((congrFun (ov_no rfl) _).trans e_i_h_size) ((congrFun (ov_no rfl) _).trans e_i_most) (ov_get 2 rfl rfl) (ov_get 3 rfl rfl) (ov_get 4 rfl rfl) (ov_get 5 rfl rfl) (ov_get 6 rfl rfl) (ov_get 0 rfl rfl) (ova_get 0 hN_A rfl) rr18 hrr18) (va_cwU (x := ⟨"PailRow$YardReader", "next", "()V"⟩) (owner := "PailRow$Reader") 0 hts gu_X7_47_5 rfl rfl rfl rfl ⟨by decide, by decide, (hd_X6_next.2).2.2⟩ ⟨Nat.le_of_ble_eq_true rfl, Nat.le_of_ble_eq_true rfl⟩) sh_o.1 rfl rfl hl.1 (Nat.le_of_ble_eq_true rfl) dX7_burn_126 ⟨Nat.le_refl _, Nat.le_refl _⟩ rfl (fun H locs hR hS => ?_)
        have hR : RS G K (ov I [(106, (h + 2), rr12.2.1), (107, (h + 2), rr12.2.2), (501, o, rr18.1), (502, o, rr18.2.1), (503, o, rr18.2.2.1), (504, o, rr18.2.2.2.1), (505, o, rr18.2.2.2.2.1)]) (ov J [(506, o, rr18.2.2.2.2.2)]) X (ova A [((h + 1), a_h_tape), ((y + 2), a_y_fuel), ((y + 3), u17)]) B Q H := hR.to (ov_merge (l := [(106, (h + 2), rr12.2.1), (107, (h + 2), rr12.2.2), (501, o, rr2.2.2.2.1), (502, o, rr2.2.2.2.2.1), (503, o, rr2.2.2.2.2.2.1), (504, o, rr2.2.2.2.2.2.2.1), (505, o, rr2.2.2.2.2.2.2.2.1)]) rfl [2, 3, 4, 5, 6] [(501, o, rr18.1), (502, o, rr18.2.1), (503, o, rr18.2.2.1), (504, o, rr18.2.2.2.1), (505, o, rr18.2.2.2.2.1)] rfl rfl) (ov_merge (l := [(506, o, rr2.2.2.2.2.2.2.2.2)]) rfl [0] [(506, o, rr18.2.2.2.2.2)] rfl rfl) rfl rfl rfl rfl
        obtain rfl := some_i hf
        exact hend _ rfl _ _ _ _ dX7_burn_129 hR hS
      refine lv_if_ne (tgt := 102) hx hb dX7_burn_95 (by decide) (fun c19 => ?_) (fun c19 => ?_)
      · have hf := ite_f c19 hf
        refine lv_iconst (v := 0) hx hb dX7_burn_102 li_0 ?_
        exact hj103 (0 : Int32) hf _ _ _ hR hS (lv_sub hl [0, 1] rfl)
      · have hf := ite_t c19 hf
        refine lv_iconst (v := 1) hx hb dX7_burn_98 li_1 ?_
        refine lv_goto (tgt := 103) hx hb dX7_burn_99 (by decide) ?_
        exact hj103 (1 : Int32) hf _ _ _ hR hS (lv_sub hl [0, 1] rfl)
    have hj72 : ∀ (_ : Unit), f7_burn_j72 i_h_size i_most a_h_tape a_y_burns rr2 v3 rr4 = some out → ∀ (H : Heap) (locs : List Loc) (ls : Array Slot), RS G K (ov I [(106, (h + 2), rr4.2.1), (107, (h + 2), rr4.2.2), (501, o, rr2.2.2.2.1), (502, o, rr2.2.2.2.2.1), (503, o, rr2.2.2.2.2.2.1), (504, o, rr2.2.2.2.2.2.2.1), (505, o, rr2.2.2.2.2.2.2.2.1)]) (ov J [(506, o, rr2.2.2.2.2.2.2.2.2)]) X (ova A [((h + 1), a_h_tape), ((y + 2), a_y_fuel), ((y + 3), a_y_burns)]) B Q H → va_S (gA G) s.heap H locs → lv_has ls 2 [(0, .ref o), (1, .int v3)] → W p l e ({ frames := 5, cells := 0, slots := 0, locals := 109 } : Room) s m args below meth c H locs 0 0 Z (F0 m 72 ls [.ref o]) := by
      intro _ hf H locs ls hR hS hl
      unfold f7_burn_j72 at hf
      refine lv_iconst (v := 0) hx hb dX7_burn_72 li_0 ?_
      exact hj73 (0 : Int32) hf _ _ _ hR hS (lv_sub hl [0, 1] rfl)
    refine lv_icmp_ge (tgt := 72) hx hb dX7_burn_45 (by decide) (fun c20 => ?_) (fun c20 => ?_)
    · have hf := ite_t c20 hf
      exact hj72 () hf _ _ _ hR hS (lv_sub hl [0, 1] rfl)
    · have hf := ite_f c20 hf
      refine lv_aload_n hx hb dX7_burn_48 rfl (lv_at hl 0 rfl) ?_
      refine g_getr (b := y) hx hb hts hown hG hR gFx_X7_15_5 sh_o.1 x_o_y dX7_burn_49 ?_
      refine g_getr (b := (y + 2)) hx hb hts hown hG hR gFx_X7_126_3 sh_y.1 ((sh_y.2 1 _ rfl).2) dX7_burn_52 ?_
      refine lv_bipush (v := 8) hx hb dX7_burn_55 lb_8 ?_
      refine lv_aload_n hx hb dX7_burn_57 rfl (lv_at hl 0 rfl) ?_
      refine n_geti (v := rr2.2.2.2.2.2.2.1) hx hb hts hown hG hR gFi_X7_137_5 sh_o.1 (ov_get 5 rfl rfl) dX7_burn_58 ?_
      obtain ⟨v21, ev21, hf⟩ := lt_some hf
      refine n_imul hx hb ev21 dX7_burn_61 ?_
      refine lv_iload_n hx hb dX7_burn_62 rfl (lv_at hl 1 rfl) ?_
      obtain ⟨v22, ev22, hf⟩ := lt_some hf
      refine n_iadd hx hb ev22 dX7_burn_63 ?_
      obtain ⟨c23, hf⟩ := gd_some hf
      obtain ⟨v24, ev24, hf⟩ := lt_some hf
      refine n_iald (x := a_y_fuel) hx hb hG hR k_a_y_fuel c23 (ova_get 1 hN_A rfl) ev24 dX7_burn_64 ?_
      refine lv_if_le (tgt := 72) hx hb dX7_burn_65 (by decide) (fun c25 => ?_) (fun c25 => ?_)
      · have hf := ite_t c25 hf
        exact hj72 () hf _ _ _ hR hS (lv_sub hl [0, 1] rfl)
      · have hf := ite_f c25 hf
        refine lv_iconst (v := 1) hx hb dX7_burn_68 li_1 ?_
        refine lv_goto (tgt := 73) hx hb dX7_burn_69 (by decide) ?_
        exact hj73 (1 : Int32) hf _ _ _ hR hS (lv_sub hl [0, 1] rfl)
  refine lv_icmp_ne (tgt := 28) hx hb dX7_burn_21 (by decide) (fun c26 => ?_) (fun c26 => ?_)
  · have hf := ite_f c26 hf
    refine lv_iconst (v := 0) hx hb dX7_burn_28 li_0 ?_
    exact hj29 (0 : Int32) hf _ _ _ hR hS (lv_sub hl [1, 0] rfl)
  · have hf := ite_t c26 hf
    refine lv_iconst (v := 1) hx hb dX7_burn_24 li_1 ?_
    refine lv_goto (tgt := 29) hx hb dX7_burn_25 (by decide) ?_
    exact hj29 (1 : Int32) hf _ _ _ hR hS (lv_sub hl [1, 0] rfl)
