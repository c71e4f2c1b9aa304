/-! makers: the walks (printed by tools) 0 -/
set_option maxRecDepth 100000
noncomputable def w17_init (zz : Nat) (adS : Nat → Nat) (o : Nat) (K : gK) (I : gI) (J : gJ) (X : gX) (A : gI) (B : gJ) (Q : gX) (n : Nat) : Option (gK × gI × gJ × gX × gI × gJ × gX × Nat) :=
  some (K, I, J, X, A, B, Q, n)
set_option maxHeartbeats 4000000 in
theorem m17_init_w (l : Launch) (G : gG) (K : gK) (I : gI) (J : gJ) (X : gX) (A : gI) (B : gJ) (Q : gX) (n : Nat) (o : Nat) (out : gK × gI × gJ × gX × gI × gJ × gX × Nat) (hf : w17_init G.2.2 (aK G) o K I J X A B Q n = some out) : GMetX l yX17_init cX17_init 1 none (1) (12) G [.ref o] K I J X A B Q (.inr none) out.1 out.2.1 out.2.2.1 out.2.2.2.1 out.2.2.2.2.1 out.2.2.2.2.2.1 out.2.2.2.2.2.2.1 0 0 := by
  refine GMetX.of (y := yX17_init) rfl (Nat.le_of_ble_eq_true rfl) (la := [(0, .ref o)]) rfl ?_
  intro p e s m below meth c ls hx hb hr hml hlocks hts hown hname ht hG hR hW hl
  have hown : s.vm.findClass RX17 = some m.cls := hown
  have hS : va_S (gA G) s.heap s.heap [] := va_S.rf
  have hend : ∀ (pc : Nat) (H : Heap) (locs : List Loc) (ls : Array Slot), decode cX17_init pc = .ok (.return_, 1) → RS G out.1 out.2.1 out.2.2.1 out.2.2.2.1 out.2.2.2.2.1 out.2.2.2.2.2.1 out.2.2.2.2.2.2.1 H → va_S (gA G) s.heap H locs → W p l e ({ frames := 1, cells := 0, slots := 0, locals := 12 } : Room) s m ([.ref o] : List Value).toArray below meth c H locs 0 0 (vx_MQ below (xQ G (.inr none) out.1 out.2.1 out.2.2.1 out.2.2.2.1 out.2.2.2.2.1 out.2.2.2.2.2.1 out.2.2.2.2.2.2.1) (xX G (.inr none) out.1 out.2.1 out.2.2.1 out.2.2.2.1 out.2.2.2.2.1 out.2.2.2.2.2.1 out.2.2.2.2.2.2.1) ([.ref o] : List Value).toArray s 0 0 (gA G)) (F0 m pc ls []) := fun pc H locs ls hd hR hS => x_vret hx hb hr hlocks hG hR hS rfl hd
  generalize vx_MQ below (xQ G (.inr none) out.1 out.2.1 out.2.2.1 out.2.2.2.1 out.2.2.2.2.1 out.2.2.2.2.2.1 out.2.2.2.2.2.2.1) (xX G (.inr none) out.1 out.2.1 out.2.2.1 out.2.2.2.1 out.2.2.2.2.1 out.2.2.2.2.2.1 out.2.2.2.2.2.2.1) ([.ref o] : List Value).toArray s 0 0 (gA G) = Z at hend ⊢
  generalize ([.ref o] : List Value).toArray = args at hts hend ⊢
  unfold w17_init at hf
  refine lv_aload_n hx hb dX17_init_0 rfl (lv_at hl 0 rfl) ?_
  refine b_obj hx hb hown hts (hml.trans hl.1.symm) q1454 (Nat.le_of_ble_eq_true rfl) (Nat.le_of_ble_eq_true rfl) dX17_init_1 ?_
  obtain rfl := some_i hf
  exact hend _ _ _ _ dX17_init_4 hR hS
noncomputable def w15_init (zz : Nat) (adS : Nat → Nat) (o : Nat) (p1 : Int64) (p2 : Int32) (p3 : Int32) (p4 : Int32) (K : gK) (I : gI) (J : gJ) (X : gX) (A : gI) (B : gJ) (Q : gX) (n : Nat) : Option (gK × gI × gJ × gX × gI × gJ × gX × Nat) :=
  gdp (K o = some (.inl 12)) <|
  lt (i_up J 1200 o p1) fun Jm2 =>
  lt (i_up I 1201 o p2) fun Im3 =>
  lt (i_up Im3 1202 o p3) fun Im4 =>
  lt (i_up Im4 1203 o p4) fun Im5 =>
  some (K, Im5, Jm2, X, A, B, Q, n)
set_option maxHeartbeats 4000000 in
theorem m15_init_w (l : Launch) (G : gG) (K : gK) (I : gI) (J : gJ) (X : gX) (A : gI) (B : gJ) (Q : gX) (n : Nat) (o : Nat) (p1 : Int64) (p2 : Int32) (p3 : Int32) (p4 : Int32) (out : gK × gI × gJ × gX × gI × gJ × gX × Nat) (hf : w15_init G.2.2 (aK G) o p1 p2 p3 p4 K I J X A B Q n = some out) : GMetX l yX15_init cX15_init 6 none (1) (12) G [.ref o, .long p1, .int p2, .int p3, .int p4] K I J X A B Q (.inr none) out.1 out.2.1 out.2.2.1 out.2.2.2.1 out.2.2.2.2.1 out.2.2.2.2.2.1 out.2.2.2.2.2.2.1 0 0 := by
  refine GMetX.of (y := yX15_init) rfl (Nat.le_of_ble_eq_true rfl) (la := [(0, .ref o), (1, .long p1), (3, .int p2), (4, .int p3), (5, .int p4)]) rfl ?_
  intro p e s m below meth c ls hx hb hr hml hlocks hts hown hname ht hG hR hW hl
  have hown : s.vm.findClass RX15 = some m.cls := hown
  have hS : va_S (gA G) s.heap s.heap [] := va_S.rf
  have hend : ∀ (pc : Nat) (H : Heap) (locs : List Loc) (ls : Array Slot), decode cX15_init pc = .ok (.return_, 1) → RS G out.1 out.2.1 out.2.2.1 out.2.2.2.1 out.2.2.2.2.1 out.2.2.2.2.2.1 out.2.2.2.2.2.2.1 H → va_S (gA G) s.heap H locs → W p l e ({ frames := 1, cells := 0, slots := 0, locals := 12 } : Room) s m ([.ref o, .long p1, .int p2, .int p3, .int p4] : List Value).toArray below meth c H locs 0 0 (vx_MQ below (xQ G (.inr none) out.1 out.2.1 out.2.2.1 out.2.2.2.1 out.2.2.2.2.1 out.2.2.2.2.2.1 out.2.2.2.2.2.2.1) (xX G (.inr none) out.1 out.2.1 out.2.2.1 out.2.2.2.1 out.2.2.2.2.1 out.2.2.2.2.2.1 out.2.2.2.2.2.2.1) ([.ref o, .long p1, .int p2, .int p3, .int p4] : List Value).toArray s 0 0 (gA G)) (F0 m pc ls []) := fun pc H locs ls hd hR hS => x_vret hx hb hr hlocks hG hR hS rfl hd
  generalize vx_MQ below (xQ G (.inr none) out.1 out.2.1 out.2.2.1 out.2.2.2.1 out.2.2.2.2.1 out.2.2.2.2.2.1 out.2.2.2.2.2.2.1) (xX G (.inr none) out.1 out.2.1 out.2.2.1 out.2.2.2.1 out.2.2.2.2.1 out.2.2.2.2.2.1 out.2.2.2.2.2.2.1) ([.ref o, .long p1, .int p2, .int p3, .int p4] : List Value).toArray s 0 0 (gA G) = Z at hend ⊢
  generalize ([.ref o, .long p1, .int p2, .int p3, .int p4] : List Value).toArray = args at hts hend ⊢
  unfold w15_init at hf
  refine lv_aload_n hx hb dX15_init_0 rfl (lv_at hl 0 rfl) ?_
  refine b_obj hx hb hown hts (hml.trans hl.1.symm) q982 (Nat.le_of_ble_eq_true rfl) (Nat.le_of_ble_eq_true rfl) dX15_init_1 ?_
  refine lv_aload_n hx hb dX15_init_4 rfl (lv_at hl 0 rfl) ?_
  refine lv_lload_n hx hb dX15_init_5 rfl (lv_at hl 1 rfl) ?_
  obtain ⟨k1, hf⟩ := gdp_some hf
  refine g_putFj (f := 1200) (v := p1) hx hb hts hown hname hG hR hS gNX15_7_12 rfl rfl k1 (by decide +kernel) dX15_init_6 (fun H locs _ hR hS => ?_)
  obtain ⟨Jm2, eJm2, hf⟩ := lt_some hf
  rw [← eJm2] at hR
  refine lv_aload_n hx hb dX15_init_9 rfl (lv_at hl 0 rfl) ?_
  refine lv_iload_n hx hb dX15_init_10 rfl (lv_at hl 2 rfl) ?_
  refine g_putFi (f := 1201) (v := p2) hx hb hts hown hname hG hR hS gNX15_13_12 rfl rfl k1 (by decide +kernel) dX15_init_11 (fun H locs _ hR hS => ?_)
  obtain ⟨Im3, eIm3, hf⟩ := lt_some hf
  rw [← eIm3] at hR
  refine lv_aload_n hx hb dX15_init_14 rfl (lv_at hl 0 rfl) ?_
  refine lv_iload hx hb dX15_init_15 (lv_at hl 3 rfl) ?_
  refine g_putFi (f := 1202) (v := p3) hx hb hts hown hname hG hR hS gNX15_17_12 rfl rfl k1 (by decide +kernel) dX15_init_17 (fun H locs _ hR hS => ?_)
  obtain ⟨Im4, eIm4, hf⟩ := lt_some hf
  rw [← eIm4] at hR
  refine lv_aload_n hx hb dX15_init_20 rfl (lv_at hl 0 rfl) ?_
  refine lv_iload hx hb dX15_init_21 (lv_at hl 4 rfl) ?_
  refine g_putFi (f := 1203) (v := p4) hx hb hts hown hname hG hR hS gNX15_20_12 rfl rfl k1 (by decide +kernel) dX15_init_23 (fun H locs _ hR hS => ?_)
  obtain ⟨Im5, eIm5, hf⟩ := lt_some hf
  rw [← eIm5] at hR
  obtain rfl := some_i hf
  exact hend _ _ _ _ dX15_init_26 hR hS
noncomputable def w16_init (zz : Nat) (adS : Nat → Nat) (o : Nat) (p1 : Int32) (p2 : Int32) (p3 : Int32) (x4 : Option Nat) (p5 : Int32) (K : gK) (I : gI) (J : gJ) (X : gX) (A : gI) (B : gJ) (Q : gX) (n : Nat) : Option (gK × gI × gJ × gX × gI × gJ × gX × Nat) :=
  gdp (K o = some (.inl 13)) <|
  lt (i_up I 1300 o p1) fun Im2 =>
  lt (i_up Im2 1301 o p2) fun Im3 =>
  lt (i_up Im3 1302 o p3) fun Im4 =>
  lt (i_up X 1304 o x4) fun Xm5 =>
  lt (i_up Im4 1303 o p5) fun Im6 =>
  some (K, Im6, J, Xm5, A, B, Q, n)
set_option maxHeartbeats 4000000 in
theorem m16_init_w (l : Launch) (G : gG) (K : gK) (I : gI) (J : gJ) (X : gX) (A : gI) (B : gJ) (Q : gX) (n : Nat) (o : Nat) (p1 : Int32) (p2 : Int32) (p3 : Int32) (x4 : Option Nat) (p5 : Int32) (out : gK × gI × gJ × gX × gI × gJ × gX × Nat) (hf : w16_init G.2.2 (aK G) o p1 p2 p3 x4 p5 K I J X A B Q n = some out) : GMetX l yX16_init cX16_init 6 none (1) (12) G [.ref o, .int p1, .int p2, .int p3, va_rf x4, .int p5] K I J X A B Q (.inr none) out.1 out.2.1 out.2.2.1 out.2.2.2.1 out.2.2.2.2.1 out.2.2.2.2.2.1 out.2.2.2.2.2.2.1 0 0 := by
  refine GMetX.of (y := yX16_init) rfl (by cases x4 <;> exact Nat.le_of_ble_eq_true rfl) (la := [(0, .ref o), (1, .int p1), (2, .int p2), (3, .int p3), (4, va_rf x4), (5, .int p5)]) (by cases x4 <;> rfl) ?_
  intro p e s m below meth c ls hx hb hr hml hlocks hts hown hname ht hG hR hW hl
  have hown : s.vm.findClass RX16 = some m.cls := hown
  have hS : va_S (gA G) s.heap s.heap [] := va_S.rf
  have hend : ∀ (pc : Nat) (H : Heap) (locs : List Loc) (ls : Array Slot), decode cX16_init pc = .ok (.return_, 1) → RS G out.1 out.2.1 out.2.2.1 out.2.2.2.1 out.2.2.2.2.1 out.2.2.2.2.2.1 out.2.2.2.2.2.2.1 H → va_S (gA G) s.heap H locs → W p l e ({ frames := 1, cells := 0, slots := 0, locals := 12 } : Room) s m ([.ref o, .int p1, .int p2, .int p3, va_rf x4, .int p5] : List Value).toArray below meth c H locs 0 0 (vx_MQ below (xQ G (.inr none) out.1 out.2.1 out.2.2.1 out.2.2.2.1 out.2.2.2.2.1 out.2.2.2.2.2.1 out.2.2.2.2.2.2.1) (xX G (.inr none) out.1 out.2.1 out.2.2.1 out.2.2.2.1 out.2.2.2.2.1 out.2.2.2.2.2.1 out.2.2.2.2.2.2.1) ([.ref o, .int p1, .int p2, .int p3, va_rf x4, .int p5] : List Value).toArray s 0 0 (gA G)) (F0 m pc ls []) := fun pc H locs ls hd hR hS => x_vret hx hb hr hlocks hG hR hS rfl hd
  generalize vx_MQ below (xQ G (.inr none) out.1 out.2.1 out.2.2.1 out.2.2.2.1 out.2.2.2.2.1 out.2.2.2.2.2.1 out.2.2.2.2.2.2.1) (xX G (.inr none) out.1 out.2.1 out.2.2.1 out.2.2.2.1 out.2.2.2.2.1 out.2.2.2.2.2.1 out.2.2.2.2.2.2.1) ([.ref o, .int p1, .int p2, .int p3, va_rf x4, .int p5] : List Value).toArray s 0 0 (gA G) = Z at hend ⊢
  generalize ([.ref o, .int p1, .int p2, .int p3, va_rf x4, .int p5] : List Value).toArray = args at hts hend ⊢
  unfold w16_init at hf
  refine lv_aload_n hx hb dX16_init_0 rfl (lv_at hl 0 rfl) ?_
  refine b_obj hx hb hown hts (hml.trans hl.1.symm) q1079 (Nat.le_of_ble_eq_true rfl) (Nat.le_of_ble_eq_true rfl) dX16_init_1 ?_
  refine lv_aload_n hx hb dX16_init_4 rfl (lv_at hl 0 rfl) ?_
  refine lv_iload_n hx hb dX16_init_5 rfl (lv_at hl 1 rfl) ?_
  obtain ⟨k1, hf⟩ := gdp_some hf
  refine g_putFi (f := 1300) (v := p1) hx hb hts hown hname hG hR hS gNX16_7_13 rfl rfl k1 (by decide +kernel) dX16_init_6 (fun H locs _ hR hS => ?_)
  obtain ⟨Im2, eIm2, hf⟩ := lt_some hf
  rw [← eIm2] at hR
  refine lv_aload_n hx hb dX16_init_9 rfl (lv_at hl 0 rfl) ?_
  refine lv_iload_n hx hb dX16_init_10 rfl (lv_at hl 2 rfl) ?_
  refine g_putFi (f := 1301) (v := p2) hx hb hts hown hname hG hR hS gNX16_13_13 rfl rfl k1 (by decide +kernel) dX16_init_11 (fun H locs _ hR hS => ?_)
  obtain ⟨Im3, eIm3, hf⟩ := lt_some hf
  rw [← eIm3] at hR
  refine lv_aload_n hx hb dX16_init_14 rfl (lv_at hl 0 rfl) ?_
  refine lv_iload_n hx hb dX16_init_15 rfl (lv_at hl 3 rfl) ?_
  refine g_putFi (f := 1302) (v := p3) hx hb hts hown hname hG hR hS gNX16_16_13 rfl rfl k1 (by decide +kernel) dX16_init_16 (fun H locs _ hR hS => ?_)
  obtain ⟨Im4, eIm4, hf⟩ := lt_some hf
  rw [← eIm4] at hR
  refine lv_aload_n hx hb dX16_init_19 rfl (lv_at hl 0 rfl) ?_
  refine n_aload hx hb dX16_init_20 (lv_at hl 4 rfl) ?_
  refine g_putFx (f := 1304) (v := x4) (ty := .array .int) hx hb hts hown hname hG hR hS gNX16_19_13 rfl rfl k1 (by decide +kernel) (Or.inr ⟨_, rfl⟩) dX16_init_22 (fun H locs _ hR hS => ?_)
  obtain ⟨Xm5, eXm5, hf⟩ := lt_some hf
  rw [← eXm5] at hR
  refine lv_aload_n hx hb dX16_init_25 rfl (lv_at hl 0 rfl) ?_
  refine lv_iload hx hb dX16_init_26 (lv_at hl 5 rfl) ?_
  refine g_putFi (f := 1303) (v := p5) hx hb hts hown hname hG hR hS gNX16_23_13 rfl rfl k1 (by decide +kernel) dX16_init_28 (fun H locs _ hR hS => ?_)
  obtain ⟨Im6, eIm6, hf⟩ := lt_some hf
  rw [← eIm6] at hR
  obtain rfl := some_i hf
  exact hend _ _ _ _ dX16_init_31 hR hS
noncomputable def w18_init (zz : Nat) (adS : Nat → Nat) (o : Nat) (a1 : Nat) (K : gK) (I : gI) (J : gJ) (X : gX) (A : gI) (B : gJ) (Q : gX) (n : Nat) : Option (gK × gI × gJ × gX × gI × gJ × gX × Nat) :=
  (w17_init zz adS o K I J X A B Q n).bind fun r1 =>
  gdp (r1.1 o = some (.inl 14)) <|
  lt (i_up r1.2.2.2.1 1400 o (some a1)) fun Xm3 =>
  some (r1.1, r1.2.1, r1.2.2.1, Xm3, r1.2.2.2.2.1, r1.2.2.2.2.2.1, r1.2.2.2.2.2.2.1, r1.2.2.2.2.2.2.2)
set_option maxHeartbeats 4000000 in
theorem m18_init_w (l : Launch) (G : gG) (K : gK) (I : gI) (J : gJ) (X : gX) (A : gI) (B : gJ) (Q : gX) (n : Nat) (o : Nat) (a1 : Nat) (out : gK × gI × gJ × gX × gI × gJ × gX × Nat) (hf : w18_init G.2.2 (aK G) o a1 K I J X A B Q n = some out) : GMetX l yX18_init cX18_init 2 none (2) (32) G [.ref o, .ref a1] K I J X A B Q (.inr none) out.1 out.2.1 out.2.2.1 out.2.2.2.1 out.2.2.2.2.1 out.2.2.2.2.2.1 out.2.2.2.2.2.2.1 0 0 := by
  refine GMetX.of (y := yX18_init) rfl (Nat.le_of_ble_eq_true rfl) (la := [(0, .ref o), (1, .ref a1)]) rfl ?_
  intro p e s m below meth c ls hx hb hr hml hlocks hts hown hname ht hG hR hW hl
  have hown : s.vm.findClass RX18 = some m.cls := hown
  have hS : va_S (gA G) s.heap s.heap [] := va_S.rf
  have hend : ∀ (pc : Nat) (H : Heap) (locs : List Loc) (ls : Array Slot), decode cX18_init pc = .ok (.return_, 1) → RS G out.1 out.2.1 out.2.2.1 out.2.2.2.1 out.2.2.2.2.1 out.2.2.2.2.2.1 out.2.2.2.2.2.2.1 H → va_S (gA G) s.heap H locs → W p l e ({ frames := 2, cells := 0, slots := 0, locals := 32 } : Room) s m ([.ref o, .ref a1] : List Value).toArray below meth c H locs 0 0 (vx_MQ below (xQ G (.inr none) out.1 out.2.1 out.2.2.1 out.2.2.2.1 out.2.2.2.2.1 out.2.2.2.2.2.1 out.2.2.2.2.2.2.1) (xX G (.inr none) out.1 out.2.1 out.2.2.1 out.2.2.2.1 out.2.2.2.2.1 out.2.2.2.2.2.1 out.2.2.2.2.2.2.1) ([.ref o, .ref a1] : List Value).toArray s 0 0 (gA G)) (F0 m pc ls []) := fun pc H locs ls hd hR hS => x_vret hx hb hr hlocks hG hR hS rfl hd
  generalize vx_MQ below (xQ G (.inr none) out.1 out.2.1 out.2.2.1 out.2.2.2.1 out.2.2.2.2.1 out.2.2.2.2.2.1 out.2.2.2.2.2.2.1) (xX G (.inr none) out.1 out.2.1 out.2.2.1 out.2.2.2.1 out.2.2.2.2.1 out.2.2.2.2.2.1 out.2.2.2.2.2.2.1) ([.ref o, .ref a1] : List Value).toArray s 0 0 (gA G) = Z at hend ⊢
  generalize ([.ref o, .ref a1] : List Value).toArray = args at hts hend ⊢
  unfold w18_init at hf
  refine lv_aload_n hx hb dX18_init_0 rfl (lv_at hl 0 rfl) ?_
  obtain ⟨r1, hr1, hf⟩ := bind_s hf
  refine x0_gor (vx_runIN (As := []) (rest := []) (b := o) ⟨hx, hb, hml, hown, hts⟩ (m17_init_w l G K I J X A B Q n o r1 hr1) ⟨va_cnB 0 hts (lw_meth q1453) rfl rfl rfl (hG.2 _ q1451 rfl) (hts _ q129) (by decide +kernel) ⟨Nat.le_of_ble_eq_true rfl, Nat.le_of_ble_eq_true rfl⟩, rfl, hts _ q1452⟩ (x_preS hG hR hW hS) rfl rfl hl.1 rfl (lv_room (Nat.le_of_ble_eq_true rfl)) dX18_init_1 ⟨Nat.zero_le _, Nat.zero_le _⟩) hS (fun H locs hR hS => ?_)
  refine lv_aload_n hx hb dX18_init_4 rfl (lv_at hl 0 rfl) ?_
  refine lv_aload_n hx hb dX18_init_5 rfl (lv_at hl 1 rfl) ?_
  obtain ⟨k2, hf⟩ := gdp_some hf
  refine g_putFx (f := 1400) (v := (some a1)) (ty := .object "PailRow$Cond") hx hb hts hown hname hG hR hS gNX18_7_14 rfl rfl k2 (by decide +kernel) (Or.inl ⟨_, rfl⟩) dX18_init_6 (fun H locs _ hR hS => ?_)
  obtain ⟨Xm3, eXm3, hf⟩ := lt_some hf
  rw [← eXm3] at hR
  obtain rfl := some_i hf
  exact hend _ _ _ _ dX18_init_9 hR hS
noncomputable def w19_init (zz : Nat) (adS : Nat → Nat) (o : Nat) (p1 : Int32) (p2 : Int32) (p3 : Int32) (K : gK) (I : gI) (J : gJ) (X : gX) (A : gI) (B : gJ) (Q : gX) (n : Nat) : Option (gK × gI × gJ × gX × gI × gJ × gX × Nat) :=
  (w17_init zz adS o K I J X A B Q n).bind fun r1 =>
  gdp (r1.1 o = some (.inl 15)) <|
  lt (i_up r1.2.1 1500 o p1) fun Im3 =>
  lt (i_up Im3 1501 o p2) fun Im4 =>
  lt (i_up Im4 1502 o p3) fun Im5 =>
  some (r1.1, Im5, r1.2.2.1, r1.2.2.2.1, r1.2.2.2.2.1, r1.2.2.2.2.2.1, r1.2.2.2.2.2.2.1, r1.2.2.2.2.2.2.2)
set_option maxHeartbeats 4000000 in
theorem m19_init_w (l : Launch) (G : gG) (K : gK) (I : gI) (J : gJ) (X : gX) (A : gI) (B : gJ) (Q : gX) (n : Nat) (o : Nat) (p1 : Int32) (p2 : Int32) (p3 : Int32) (out : gK × gI × gJ × gX × gI × gJ × gX × Nat) (hf : w19_init G.2.2 (aK G) o p1 p2 p3 K I J X A B Q n = some out) : GMetX l yX19_init cX19_init 4 none (2) (32) G [.ref o, .int p1, .int p2, .int p3] K I J X A B Q (.inr none) out.1 out.2.1 out.2.2.1 out.2.2.2.1 out.2.2.2.2.1 out.2.2.2.2.2.1 out.2.2.2.2.2.2.1 0 0 := by
  refine GMetX.of (y := yX19_init) rfl (Nat.le_of_ble_eq_true rfl) (la := [(0, .ref o), (1, .int p1), (2, .int p2), (3, .int p3)]) rfl ?_
  intro p e s m below meth c ls hx hb hr hml hlocks hts hown hname ht hG hR hW hl
  have hown : s.vm.findClass RX19 = some m.cls := hown
  have hS : va_S (gA G) s.heap s.heap [] := va_S.rf
  have hend : ∀ (pc : Nat) (H : Heap) (locs : List Loc) (ls : Array Slot), decode cX19_init pc = .ok (.return_, 1) → RS G out.1 out.2.1 out.2.2.1 out.2.2.2.1 out.2.2.2.2.1 out.2.2.2.2.2.1 out.2.2.2.2.2.2.1 H → va_S (gA G) s.heap H locs → W p l e ({ frames := 2, cells := 0, slots := 0, locals := 32 } : Room) s m ([.ref o, .int p1, .int p2, .int p3] : List Value).toArray below meth c H locs 0 0 (vx_MQ below (xQ G (.inr none) out.1 out.2.1 out.2.2.1 out.2.2.2.1 out.2.2.2.2.1 out.2.2.2.2.2.1 out.2.2.2.2.2.2.1) (xX G (.inr none) out.1 out.2.1 out.2.2.1 out.2.2.2.1 out.2.2.2.2.1 out.2.2.2.2.2.1 out.2.2.2.2.2.2.1) ([.ref o, .int p1, .int p2, .int p3] : List Value).toArray s 0 0 (gA G)) (F0 m pc ls []) := fun pc H locs ls hd hR hS => x_vret hx hb hr hlocks hG hR hS rfl hd
  generalize vx_MQ below (xQ G (.inr none) out.1 out.2.1 out.2.2.1 out.2.2.2.1 out.2.2.2.2.1 out.2.2.2.2.2.1 out.2.2.2.2.2.2.1) (xX G (.inr none) out.1 out.2.1 out.2.2.1 out.2.2.2.1 out.2.2.2.2.1 out.2.2.2.2.2.1 out.2.2.2.2.2.2.1) ([.ref o, .int p1, .int p2, .int p3] : List Value).toArray s 0 0 (gA G) = Z at hend ⊢
  generalize ([.ref o, .int p1, .int p2, .int p3] : List Value).toArray = args at hts hend ⊢
  unfold w19_init at hf
  refine lv_aload_n hx hb dX19_init_0 rfl (lv_at hl 0 rfl) ?_
  obtain ⟨r1, hr1, hf⟩ := bind_s hf
  refine x0_gor (vx_runIN (As := []) (rest := []) (b := o) ⟨hx, hb, hml, hown, hts⟩ (m17_init_w l G K I J X A B Q n o r1 hr1) ⟨va_cnB 0 hts (lw_meth q1453) rfl rfl rfl (hG.2 _ q1471 rfl) (hts _ q129) (by decide +kernel) ⟨Nat.le_of_ble_eq_true rfl, Nat.le_of_ble_eq_true rfl⟩, rfl, hts _ q1452⟩ (x_preS hG hR hW hS) rfl rfl hl.1 rfl (lv_room (Nat.le_of_ble_eq_true rfl)) dX19_init_1 ⟨Nat.zero_le _, Nat.zero_le _⟩) hS (fun H locs hR hS => ?_)
  refine lv_aload_n hx hb dX19_init_4 rfl (lv_at hl 0 rfl) ?_
  refine lv_iload_n hx hb dX19_init_5 rfl (lv_at hl 1 rfl) ?_
  obtain ⟨k2, hf⟩ := gdp_some hf
  refine g_putFi (f := 1500) (v := p1) hx hb hts hown hname hG hR hS gNX19_7_15 rfl rfl k2 (by decide +kernel) dX19_init_6 (fun H locs _ hR hS => ?_)
  obtain ⟨Im3, eIm3, hf⟩ := lt_some hf
  rw [← eIm3] at hR
  refine lv_aload_n hx hb dX19_init_9 rfl (lv_at hl 0 rfl) ?_
  refine lv_iload_n hx hb dX19_init_10 rfl (lv_at hl 2 rfl) ?_
  refine g_putFi (f := 1501) (v := p2) hx hb hts hown hname hG hR hS gNX19_13_15 rfl rfl k2 (by decide +kernel) dX19_init_11 (fun H locs _ hR hS => ?_)
  obtain ⟨Im4, eIm4, hf⟩ := lt_some hf
  rw [← eIm4] at hR
  refine lv_aload_n hx hb dX19_init_14 rfl (lv_at hl 0 rfl) ?_
  refine lv_iload_n hx hb dX19_init_15 rfl (lv_at hl 3 rfl) ?_
  refine g_putFi (f := 1502) (v := p3) hx hb hts hown hname hG hR hS gNX19_16_15 rfl rfl k2 (by decide +kernel) dX19_init_16 (fun H locs _ hR hS => ?_)
  obtain ⟨Im5, eIm5, hf⟩ := lt_some hf
  rw [← eIm5] at hR
  obtain rfl := some_i hf
  exact hend _ _ _ _ dX19_init_19 hR hS
noncomputable def w20_init (zz : Nat) (adS : Nat → Nat) (o : Nat) (K : gK) (I : gI) (J : gJ) (X : gX) (A : gI) (B : gJ) (Q : gX) (n : Nat) : Option (gK × gI × gJ × gX × gI × gJ × gX × Nat) :=
  (w17_init zz adS o K I J X A B Q n).bind fun r1 =>
  some (r1.1, r1.2.1, r1.2.2.1, r1.2.2.2.1, r1.2.2.2.2.1, r1.2.2.2.2.2.1, r1.2.2.2.2.2.2.1, r1.2.2.2.2.2.2.2)
set_option maxHeartbeats 4000000 in
theorem m20_init_w (l : Launch) (G : gG) (K : gK) (I : gI) (J : gJ) (X : gX) (A : gI) (B : gJ) (Q : gX) (n : Nat) (o : Nat) (out : gK × gI × gJ × gX × gI × gJ × gX × Nat) (hf : w20_init G.2.2 (aK G) o K I J X A B Q n = some out) : GMetX l yX20_init cX20_init 1 none (2) (32) G [.ref o] K I J X A B Q (.inr none) out.1 out.2.1 out.2.2.1 out.2.2.2.1 out.2.2.2.2.1 out.2.2.2.2.2.1 out.2.2.2.2.2.2.1 0 0 := by
  refine GMetX.of (y := yX20_init) rfl (Nat.le_of_ble_eq_true rfl) (la := [(0, .ref o)]) rfl ?_
  intro p e s m below meth c ls hx hb hr hml hlocks hts hown hname ht hG hR hW hl
  have hown : s.vm.findClass RX20 = some m.cls := hown
  have hS : va_S (gA G) s.heap s.heap [] := va_S.rf
  have hend : ∀ (pc : Nat) (H : Heap) (locs : List Loc) (ls : Array Slot), decode cX20_init pc = .ok (.return_, 1) → RS G out.1 out.2.1 out.2.2.1 out.2.2.2.1 out.2.2.2.2.1 out.2.2.2.2.2.1 out.2.2.2.2.2.2.1 H → va_S (gA G) s.heap H locs → W p l e ({ frames := 2, cells := 0, slots := 0, locals := 32 } : Room) s m ([.ref o] : List Value).toArray below meth c H locs 0 0 (vx_MQ below (xQ G (.inr none) out.1 out.2.1 out.2.2.1 out.2.2.2.1 out.2.2.2.2.1 out.2.2.2.2.2.1 out.2.2.2.2.2.2.1) (xX G (.inr none) out.1 out.2.1 out.2.2.1 out.2.2.2.1 out.2.2.2.2.1 out.2.2.2.2.2.1 out.2.2.2.2.2.2.1) ([.ref o] : List Value).toArray s 0 0 (gA G)) (F0 m pc ls []) := fun pc H locs ls hd hR hS => x_vret hx hb hr hlocks hG hR hS rfl hd
  generalize vx_MQ below (xQ G (.inr none) out.1 out.2.1 out.2.2.1 out.2.2.2.1 out.2.2.2.2.1 out.2.2.2.2.2.1 out.2.2.2.2.2.2.1) (xX G (.inr none) out.1 out.2.1 out.2.2.1 out.2.2.2.1 out.2.2.2.2.1 out.2.2.2.2.2.1 out.2.2.2.2.2.2.1) ([.ref o] : List Value).toArray s 0 0 (gA G) = Z at hend ⊢
  generalize ([.ref o] : List Value).toArray = args at hts hend ⊢
  unfold w20_init at hf
  refine lv_aload_n hx hb dX20_init_0 rfl (lv_at hl 0 rfl) ?_
  obtain ⟨r1, hr1, hf⟩ := bind_s hf
  refine x0_gor (vx_runIN (As := []) (rest := []) (b := o) ⟨hx, hb, hml, hown, hts⟩ (m17_init_w l G K I J X A B Q n o r1 hr1) ⟨va_cnB 0 hts (lw_meth q1453) rfl rfl rfl (hG.2 _ q1487 rfl) (hts _ q129) (by decide +kernel) ⟨Nat.le_of_ble_eq_true rfl, Nat.le_of_ble_eq_true rfl⟩, rfl, hts _ q1452⟩ (x_preS hG hR hW hS) rfl rfl hl.1 rfl (lv_room (Nat.le_of_ble_eq_true rfl)) dX20_init_1 ⟨Nat.zero_le _, Nat.zero_le _⟩) hS (fun H locs hR hS => ?_)
  obtain rfl := some_i hf
  exact hend _ _ _ _ dX20_init_4 hR hS
noncomputable def w21_init (zz : Nat) (adS : Nat → Nat) (o : Nat) (a1 : Nat) (a2 : Nat) (K : gK) (I : gI) (J : gJ) (X : gX) (A : gI) (B : gJ) (Q : gX) (n : Nat) : Option (gK × gI × gJ × gX × gI × gJ × gX × Nat) :=
  (w17_init zz adS o K I J X A B Q n).bind fun r1 =>
  gdp (r1.1 o = some (.inl 17)) <|
  lt (i_up r1.2.2.2.1 1700 o (some a1)) fun Xm3 =>
  lt (i_up Xm3 1701 o (some a2)) fun Xm4 =>
  some (r1.1, r1.2.1, r1.2.2.1, Xm4, r1.2.2.2.2.1, r1.2.2.2.2.2.1, r1.2.2.2.2.2.2.1, r1.2.2.2.2.2.2.2)
set_option maxHeartbeats 4000000 in
theorem m21_init_w (l : Launch) (G : gG) (K : gK) (I : gI) (J : gJ) (X : gX) (A : gI) (B : gJ) (Q : gX) (n : Nat) (o : Nat) (a1 : Nat) (a2 : Nat) (out : gK × gI × gJ × gX × gI × gJ × gX × Nat) (hf : w21_init G.2.2 (aK G) o a1 a2 K I J X A B Q n = some out) : GMetX l yX21_init cX21_init 3 none (2) (32) G [.ref o, .ref a1, .ref a2] K I J X A B Q (.inr none) out.1 out.2.1 out.2.2.1 out.2.2.2.1 out.2.2.2.2.1 out.2.2.2.2.2.1 out.2.2.2.2.2.2.1 0 0 := by
  refine GMetX.of (y := yX21_init) rfl (Nat.le_of_ble_eq_true rfl) (la := [(0, .ref o), (1, .ref a1), (2, .ref a2)]) rfl ?_
  intro p e s m below meth c ls hx hb hr hml hlocks hts hown hname ht hG hR hW hl
  have hown : s.vm.findClass RX21 = some m.cls := hown
  have hS : va_S (gA G) s.heap s.heap [] := va_S.rf
  have hend : ∀ (pc : Nat) (H : Heap) (locs : List Loc) (ls : Array Slot), decode cX21_init pc = .ok (.return_, 1) → RS G out.1 out.2.1 out.2.2.1 out.2.2.2.1 out.2.2.2.2.1 out.2.2.2.2.2.1 out.2.2.2.2.2.2.1 H → va_S (gA G) s.heap H locs → W p l e ({ frames := 2, cells := 0, slots := 0, locals := 32 } : Room) s m ([.ref o, .ref a1, .ref a2] : List Value).toArray below meth c H locs 0 0 (vx_MQ below (xQ G (.inr none) out.1 out.2.1 out.2.2.1 out.2.2.2.1 out.2.2.2.2.1 out.2.2.2.2.2.1 out.2.2.2.2.2.2.1) (xX G (.inr none) out.1 out.2.1 out.2.2.1 out.2.2.2.1 out.2.2.2.2.1 out.2.2.2.2.2.1 out.2.2.2.2.2.2.1) ([.ref o, .ref a1, .ref a2] : List Value).toArray s 0 0 (gA G)) (F0 m pc ls []) := fun pc H locs ls hd hR hS => x_vret hx hb hr hlocks hG hR hS rfl hd
  generalize vx_MQ below (xQ G (.inr none) out.1 out.2.1 out.2.2.1 out.2.2.2.1 out.2.2.2.2.1 out.2.2.2.2.2.1 out.2.2.2.2.2.2.1) (xX G (.inr none) out.1 out.2.1 out.2.2.1 out.2.2.2.1 out.2.2.2.2.1 out.2.2.2.2.2.1 out.2.2.2.2.2.2.1) ([.ref o, .ref a1, .ref a2] : List Value).toArray s 0 0 (gA G) = Z at hend ⊢
  generalize ([.ref o, .ref a1, .ref a2] : List Value).toArray = args at hts hend ⊢
  unfold w21_init at hf
  refine lv_aload_n hx hb dX21_init_0 rfl (lv_at hl 0 rfl) ?_
  obtain ⟨r1, hr1, hf⟩ := bind_s hf
  refine x0_gor (vx_runIN (As := []) (rest := []) (b := o) ⟨hx, hb, hml, hown, hts⟩ (m17_init_w l G K I J X A B Q n o r1 hr1) ⟨va_cnB 0 hts (lw_meth q1453) rfl rfl rfl (hG.2 _ q1495 rfl) (hts _ q129) (by decide +kernel) ⟨Nat.le_of_ble_eq_true rfl, Nat.le_of_ble_eq_true rfl⟩, rfl, hts _ q1452⟩ (x_preS hG hR hW hS) rfl rfl hl.1 rfl (lv_room (Nat.le_of_ble_eq_true rfl)) dX21_init_1 ⟨Nat.zero_le _, Nat.zero_le _⟩) hS (fun H locs hR hS => ?_)
  refine lv_aload_n hx hb dX21_init_4 rfl (lv_at hl 0 rfl) ?_
  refine lv_aload_n hx hb dX21_init_5 rfl (lv_at hl 1 rfl) ?_
  obtain ⟨k2, hf⟩ := gdp_some hf
  refine g_putFx (f := 1700) (v := (some a1)) (ty := .object "PailRow$Cond") hx hb hts hown hname hG hR hS gNX21_7_17 rfl rfl k2 (by decide +kernel) (Or.inl ⟨_, rfl⟩) dX21_init_6 (fun H locs _ hR hS => ?_)
  obtain ⟨Xm3, eXm3, hf⟩ := lt_some hf
  rw [← eXm3] at hR
  refine lv_aload_n hx hb dX21_init_9 rfl (lv_at hl 0 rfl) ?_
  refine lv_aload_n hx hb dX21_init_10 rfl (lv_at hl 2 rfl) ?_
  refine g_putFx (f := 1701) (v := (some a2)) (ty := .object "PailRow$Cond") hx hb hts hown hname hG hR hS gNX21_13_17 rfl rfl k2 (by decide +kernel) (Or.inl ⟨_, rfl⟩) dX21_init_11 (fun H locs _ hR hS => ?_)
  obtain ⟨Xm4, eXm4, hf⟩ := lt_some hf
  rw [← eXm4] at hR
  obtain rfl := some_i hf
  exact hend _ _ _ _ dX21_init_14 hR hS
noncomputable def w22_init (zz : Nat) (adS : Nat → Nat) (o : Nat) (a1 : Nat) (a2 : Nat) (K : gK) (I : gI) (J : gJ) (X : gX) (A : gI) (B : gJ) (Q : gX) (n : Nat) : Option (gK × gI × gJ × gX × gI × gJ × gX × Nat) :=
  (w17_init zz adS o K I J X A B Q n).bind fun r1 =>
  gdp (r1.1 o = some (.inl 18)) <|
  lt (i_up r1.2.2.2.1 1800 o (some a1)) fun Xm3 =>
  lt (i_up Xm3 1801 o (some a2)) fun Xm4 =>
  some (r1.1, r1.2.1, r1.2.2.1, Xm4, r1.2.2.2.2.1, r1.2.2.2.2.2.1, r1.2.2.2.2.2.2.1, r1.2.2.2.2.2.2.2)
set_option maxHeartbeats 4000000 in
theorem m22_init_w (l : Launch) (G : gG) (K : gK) (I : gI) (J : gJ) (X : gX) (A : gI) (B : gJ) (Q : gX) (n : Nat) (o : Nat) (a1 : Nat) (a2 : Nat) (out : gK × gI × gJ × gX × gI × gJ × gX × Nat) (hf : w22_init G.2.2 (aK G) o a1 a2 K I J X A B Q n = some out) : GMetX l yX22_init cX22_init 3 none (2) (32) G [.ref o, .ref a1, .ref a2] K I J X A B Q (.inr none) out.1 out.2.1 out.2.2.1 out.2.2.2.1 out.2.2.2.2.1 out.2.2.2.2.2.1 out.2.2.2.2.2.2.1 0 0 := by
  refine GMetX.of (y := yX22_init) rfl (Nat.le_of_ble_eq_true rfl) (la := [(0, .ref o), (1, .ref a1), (2, .ref a2)]) rfl ?_
  intro p e s m below meth c ls hx hb hr hml hlocks hts hown hname ht hG hR hW hl
  have hown : s.vm.findClass RX22 = some m.cls := hown
  have hS : va_S (gA G) s.heap s.heap [] := va_S.rf
  have hend : ∀ (pc : Nat) (H : Heap) (locs : List Loc) (ls : Array Slot), decode cX22_init pc = .ok (.return_, 1) → RS G out.1 out.2.1 out.2.2.1 out.2.2.2.1 out.2.2.2.2.1 out.2.2.2.2.2.1 out.2.2.2.2.2.2.1 H → va_S (gA G) s.heap H locs → W p l e ({ frames := 2, cells := 0, slots := 0, locals := 32 } : Room) s m ([.ref o, .ref a1, .ref a2] : List Value).toArray below meth c H locs 0 0 (vx_MQ below (xQ G (.inr none) out.1 out.2.1 out.2.2.1 out.2.2.2.1 out.2.2.2.2.1 out.2.2.2.2.2.1 out.2.2.2.2.2.2.1) (xX G (.inr none) out.1 out.2.1 out.2.2.1 out.2.2.2.1 out.2.2.2.2.1 out.2.2.2.2.2.1 out.2.2.2.2.2.2.1) ([.ref o, .ref a1, .ref a2] : List Value).toArray s 0 0 (gA G)) (F0 m pc ls []) := fun pc H locs ls hd hR hS => x_vret hx hb hr hlocks hG hR hS rfl hd
  generalize vx_MQ below (xQ G (.inr none) out.1 out.2.1 out.2.2.1 out.2.2.2.1 out.2.2.2.2.1 out.2.2.2.2.2.1 out.2.2.2.2.2.2.1) (xX G (.inr none) out.1 out.2.1 out.2.2.1 out.2.2.2.1 out.2.2.2.2.1 out.2.2.2.2.2.1 out.2.2.2.2.2.2.1) ([.ref o, .ref a1, .ref a2] : List Value).toArray s 0 0 (gA G) = Z at hend ⊢
  generalize ([.ref o, .ref a1, .ref a2] : List Value).toArray = args at hts hend ⊢
  unfold w22_init at hf
  refine lv_aload_n hx hb dX22_init_0 rfl (lv_at hl 0 rfl) ?_
  obtain ⟨r1, hr1, hf⟩ := bind_s hf
  refine x0_gor (vx_runIN (As := []) (rest := []) (b := o) ⟨hx, hb, hml, hown, hts⟩ (m17_init_w l G K I J X A B Q n o r1 hr1) ⟨va_cnB 0 hts (lw_meth q1453) rfl rfl rfl (hG.2 _ q1509 rfl) (hts _ q129) (by decide +kernel) ⟨Nat.le_of_ble_eq_true rfl, Nat.le_of_ble_eq_true rfl⟩, rfl, hts _ q1452⟩ (x_preS hG hR hW hS) rfl rfl hl.1 rfl (lv_room (Nat.le_of_ble_eq_true rfl)) dX22_init_1 ⟨Nat.zero_le _, Nat.zero_le _⟩) hS (fun H locs hR hS => ?_)
  refine lv_aload_n hx hb dX22_init_4 rfl (lv_at hl 0 rfl) ?_
  refine lv_aload_n hx hb dX22_init_5 rfl (lv_at hl 1 rfl) ?_
  obtain ⟨k2, hf⟩ := gdp_some hf
  refine g_putFx (f := 1800) (v := (some a1)) (ty := .object "PailRow$Cond") hx hb hts hown hname hG hR hS gNX22_7_18 rfl rfl k2 (by decide +kernel) (Or.inl ⟨_, rfl⟩) dX22_init_6 (fun H locs _ hR hS => ?_)
  obtain ⟨Xm3, eXm3, hf⟩ := lt_some hf
  rw [← eXm3] at hR
  refine lv_aload_n hx hb dX22_init_9 rfl (lv_at hl 0 rfl) ?_
  refine lv_aload_n hx hb dX22_init_10 rfl (lv_at hl 2 rfl) ?_
  refine g_putFx (f := 1801) (v := (some a2)) (ty := .object "PailRow$Cond") hx hb hts hown hname hG hR hS gNX22_13_18 rfl rfl k2 (by decide +kernel) (Or.inl ⟨_, rfl⟩) dX22_init_11 (fun H locs _ hR hS => ?_)
  obtain ⟨Xm4, eXm4, hf⟩ := lt_some hf
  rw [← eXm4] at hR
  obtain rfl := some_i hf
  exact hend _ _ _ _ dX22_init_14 hR hS
noncomputable def w7_man_j27 (zz : Nat) (adS : Nat → Nat) (o : Nat) (K : gK) (J : gJ) (X : gX) (A : gI) (B : gJ) (Q : gX) (n : Nat) (Im14 : gI) (a21 : Nat) (j27_s0 : Int32) : Option ((Nat ⊕ Unit) × gK × gI × gJ × gX × gI × gJ × gX × Nat) :=
  (X 507 o).bind fun a28 =>
  gdp (Sh K X a28 0 rows0) <|
  gdp (K (a28 + 2) = some (.inl 1)) <|
  gdp (X 4 a28 = some (a28 + 2)) <|
  (f6_mustY j27_s0 (3 : Int32) (Im14 106 (a28 + 2)) (Im14 107 (a28 + 2)) (Im14 502 o)).bind fun r27 =>
  tr r27.1 (
    lt ((ov Im14 [(106, (a28 + 2), r27.2.1), (107, (a28 + 2), r27.2.2)])) fun Im32 =>
    gdp (K (a28 + 2) = some (.inl 1)) <|
    gdp (0 ≤ 1 ∧ 0 ≤ 4) <|
    some ((.inl (a28 + 2)), K, Im32, J, X, A, B, Q, n)
    ) fun v33 =>
  lt ((ov Im14 [(106, (a28 + 2), r27.2.1), (107, (a28 + 2), r27.2.2)])) fun Im32 =>
  lt (J 506 o) fun v37 =>
  (X 507 o).bind fun a39 =>
  gdp (Sh K X a39 0 rows0) <|
  (f6_nextY (Im32 2 a39) (Im32 500 o) (Im32 501 o) (Im32 502 o) (Im32 503 o) (Im32 504 o) (Im32 505 o) (J 506 o) (A (a39 + 1))).bind fun r38 =>
  lt ((ov Im32 [(501, o, r38.1), (502, o, r38.2.1), (503, o, r38.2.2.1), (504, o, r38.2.2.2.1), (505, o, r38.2.2.2.2.1)])) fun Im41 =>
  lt ((ov J [(506, o, r38.2.2.2.2.2)])) fun Jm42 =>
  (X 507 o).bind fun a44 =>
  gdp (Sh K X a44 0 rows0) <|
  gdp (K (a44 + 2) = some (.inl 1)) <|
  gdp (X 4 a44 = some (a44 + 2)) <|
  (f6_numberY (1 : Int32) (9 : Int32) (Im41 2 a44) (Im41 106 (a44 + 2)) (Im41 107 (a44 + 2)) (Im41 500 o) (Im41 501 o) (Im41 502 o) (Im41 503 o) (Im41 504 o) (Im41 505 o) (Jm42 506 o) (A (a44 + 1))).bind fun r43 =>
  tr r43.1 (
    lt ((ov Im41 [(106, (a44 + 2), r43.2.1), (107, (a44 + 2), r43.2.2.1), (501, o, r43.2.2.2.1), (502, o, r43.2.2.2.2.1), (503, o, r43.2.2.2.2.2.1), (504, o, r43.2.2.2.2.2.2.1), (505, o, r43.2.2.2.2.2.2.2.1)])) fun Im48 =>
    lt ((ov Jm42 [(506, o, r43.2.2.2.2.2.2.2.2)])) fun Jm49 =>
    gdp (K (a44 + 2) = some (.inl 1)) <|
    gdp (0 ≤ 1 ∧ 0 ≤ 4) <|
    some ((.inl (a44 + 2)), K, Im48, Jm49, X, A, B, Q, n)
    ) fun v50 =>
  lt ((ov Im41 [(106, (a44 + 2), r43.2.1), (107, (a44 + 2), r43.2.2.1), (501, o, r43.2.2.2.1), (502, o, r43.2.2.2.2.1), (503, o, r43.2.2.2.2.2.1), (504, o, r43.2.2.2.2.2.2.1), (505, o, r43.2.2.2.2.2.2.2.1)])) fun Im48 =>
  lt ((ov Jm42 [(506, o, r43.2.2.2.2.2.2.2.2)])) fun Jm49 =>
  (X 507 o).bind fun a55 =>
  gdp (Sh K X a55 0 rows0) <|
  gdp (K (a55 + 2) = some (.inl 1)) <|
  gdp (X 4 a55 = some (a55 + 2)) <|
  (f6_numberY (1 : Int32) (9 : Int32) (Im48 2 a55) (Im48 106 (a55 + 2)) (Im48 107 (a55 + 2)) (Im48 500 o) (Im48 501 o) (Im48 502 o) (Im48 503 o) (Im48 504 o) (Im48 505 o) (Jm49 506 o) (A (a55 + 1))).bind fun r54 =>
  tr r54.1 (
    lt ((ov Im48 [(106, (a55 + 2), r54.2.1), (107, (a55 + 2), r54.2.2.1), (501, o, r54.2.2.2.1), (502, o, r54.2.2.2.2.1), (503, o, r54.2.2.2.2.2.1), (504, o, r54.2.2.2.2.2.2.1), (505, o, r54.2.2.2.2.2.2.2.1)])) fun Im59 =>
    lt ((ov Jm49 [(506, o, r54.2.2.2.2.2.2.2.2)])) fun Jm60 =>
    gdp (K (a55 + 2) = some (.inl 1)) <|
    gdp (0 ≤ 1 ∧ 0 ≤ 4) <|
    some ((.inl (a55 + 2)), K, Im59, Jm60, X, A, B, Q, n)
    ) fun v61 =>
  lt ((ov Im48 [(106, (a55 + 2), r54.2.1), (107, (a55 + 2), r54.2.2.1), (501, o, r54.2.2.2.1), (502, o, r54.2.2.2.2.1), (503, o, r54.2.2.2.2.2.1), (504, o, r54.2.2.2.2.2.2.1), (505, o, r54.2.2.2.2.2.2.2.1)])) fun Im59 =>
  lt ((ov Jm49 [(506, o, r54.2.2.2.2.2.2.2.2)])) fun Jm60 =>
  gdp (K a21 = some (.inl 3)) <|
  lt (X 300 a21) fun x66 =>
  lt (Im59 303 a21) fun v67 =>
  gdp (freshz zz K n) <|
  gdp (0 + 1 ≤ 1 ∧ 0 + 4 ≤ 4) <|
  lt (a_up K n (some (.inl 12))) fun Km70 =>
  lt (zc Im59 n 0) fun Im71 =>
  lt (zc Jm60 n 0) fun Jm72 =>
  lt (zc X n none) fun Xm73 =>
  lt (n + 1) fun n74 =>
  lt (0 + 1) fun u75 =>
  lt (0 + 4) fun v76 =>
  gdp (u75 ≤ 1 ∧ v76 ≤ 4) <|
  (Xm73 507 o).bind fun a79 =>
  gdp (Sh Km70 Xm73 o 5 rows5) <|
  gdp (Sh Km70 Xm73 a79 0 rows0) <|
  gdp (Km70 (a79 + 2) = some (.inl 1)) <|
  gdp (Xm73 4 a79 = some (a79 + 2)) <|
  (f6_numberY (1 : Int32) (99 : Int32) (Im71 2 a79) (Im71 106 (a79 + 2)) (Im71 107 (a79 + 2)) (Im71 500 o) (Im71 501 o) (Im71 502 o) (Im71 503 o) (Im71 504 o) (Im71 505 o) (Jm72 506 o) (A (a79 + 1))).bind fun r77 =>
  tr r77.1 (
    lt ((ov Im71 [(106, (a79 + 2), r77.2.1), (107, (a79 + 2), r77.2.2.1), (501, o, r77.2.2.2.1), (502, o, r77.2.2.2.2.1), (503, o, r77.2.2.2.2.2.1), (504, o, r77.2.2.2.2.2.2.1), (505, o, r77.2.2.2.2.2.2.2.1)])) fun Im84 =>
    lt ((ov Jm72 [(506, o, r77.2.2.2.2.2.2.2.2)])) fun Jm85 =>
    gdp (Km70 (a79 + 2) = some (.inl 1)) <|
    gdp (u75 ≤ 1 ∧ v76 ≤ 4) <|
    some ((.inl (a79 + 2)), Km70, Im84, Jm85, Xm73, A, B, Q, n74)
    ) fun v86 =>
  lt ((ov Im71 [(106, (a79 + 2), r77.2.1), (107, (a79 + 2), r77.2.2.1), (501, o, r77.2.2.2.1), (502, o, r77.2.2.2.2.1), (503, o, r77.2.2.2.2.2.1), (504, o, r77.2.2.2.2.2.2.1), (505, o, r77.2.2.2.2.2.2.2.1)])) fun Im84 =>
  lt ((ov Jm72 [(506, o, r77.2.2.2.2.2.2.2.2)])) fun Jm85 =>
  (w15_init zz adS n v37 v50 v61 v86 Km70 Im84 Jm85 Xm73 A B Q n74).bind fun r90 =>
  (x66).bind fun a91 =>
  gdp (r90.1 n = some (.inl 12)) <|
  (alen r90.1 a91 4).bind fun n93 =>
  gdp (inb v67 n93) <|
  lt (a_up r90.2.2.2.2.2.2.1 a91 (va_up (r90.2.2.2.2.2.2.1 a91) v67.toNatClampNeg (some n))) fun Qm95 =>
  gdp (r90.1 o = some (.inl 5)) <|
  lt (r90.2.2.2.1 508 o) fun x97 =>
  (x97).bind fun a98 =>
  gdp (r90.1 a98 = some (.inl 3)) <|
  lt (r90.2.1 303 a98) fun v100 =>
  lt (v100 + (1 : Int32)) fun v101 =>
  lt (i_up r90.2.1 303 a98 v101) fun Im102 =>
  gdp (u75 ≤ 1 ∧ v76 ≤ 4) <|
  some ((.inr ()), r90.1, Im102, r90.2.2.1, r90.2.2.2.1, r90.2.2.2.2.1, r90.2.2.2.2.2.1, Qm95, r90.2.2.2.2.2.2.2)

noncomputable def w7_man (zz : Nat) (adS : Nat → Nat) (o : Nat) (K : gK) (I : gI) (J : gJ) (X : gX) (A : gI) (B : gJ) (Q : gX) (n : Nat) : Option ((Nat ⊕ Unit) × gK × gI × gJ × gX × gI × gJ × gX × Nat) :=
  gdp (∃ a, K a ≠ none) <|
  (X 507 o).bind fun a2 =>
  gdp (Sh K X o 5 rows5) <|
  gdp (Sh K X a2 0 rows0) <|
  gdp (∀ j, j < 10 → Q (a2 + 3) j = some (adS (0 + j))) <|
  gdp (∀ j, j < 4 → Q (a2 + 4) j = some (adS (10 + j))) <|
  gdp (∀ j, j < 5 → Q (a2 + 5) j = some (adS (14 + j))) <|
  gdp (∀ j, j < 10 → Q (a2 + 6) j = some (adS (19 + j))) <|
  (f6_isNameY (I 502 o) (I 503 o) (I 505 o) (A (a2 + 1))).bind fun r1 =>
  (X 507 o).bind fun a10 =>
  gdp (Sh K X a10 0 rows0) <|
  gdp (K (a10 + 2) = some (.inl 1)) <|
  gdp (X 4 a10 = some (a10 + 2)) <|
  (f6_mustY r1 (1 : Int32) (I 106 (a10 + 2)) (I 107 (a10 + 2)) (I 502 o)).bind fun r9 =>
  tr r9.1 (
    lt ((ov I [(106, (a10 + 2), r9.2.1), (107, (a10 + 2), r9.2.2)])) fun Im14 =>
    gdp (K (a10 + 2) = some (.inl 1)) <|
    gdp (0 ≤ 1 ∧ 0 ≤ 4) <|
    some ((.inl (a10 + 2)), K, Im14, J, X, A, B, Q, n)
    ) fun v15 =>
  lt ((ov I [(106, (a10 + 2), r9.2.1), (107, (a10 + 2), r9.2.2)])) fun Im14 =>
  gdp (K o = some (.inl 5)) <|
  lt (X 508 o) fun x20 =>
  (x20).bind fun a21 =>
  (X 507 o).bind fun a23 =>
  gdp (Sh K X a21 3 rows3) <|
  gdp (Sh K X a23 0 rows0) <|
  gdp (∀ (j m : Nat), (Q (a21 + 1)) j = some m → K m = some (.inl 12)) <|
  (f6_manY (Im14 303 a21) (J 506 o) (Q (a21 + 1)) (J 1200)).bind fun r22 =>
  if r22 = (-1 : Int32) then
    w7_man_j27 zz adS o K J X A B Q n Im14 a21 (1 : Int32)
  else
    w7_man_j27 zz adS o K J X A B Q n Im14 a21 (0 : Int32)
set_option maxHeartbeats 4000000 in
theorem m7_man_w (l : Launch) (G : gG) (K : gK) (I : gI) (J : gJ) (X : gX) (A : gI) (B : gJ) (Q : gX) (n : Nat) (o : Nat) (out : (Nat ⊕ Unit) × gK × gI × gJ × gX × gI × gJ × gX × Nat) (hf : w7_man G.2.2 (aK G) o K I J X A B Q n = some out) : GMetX l yX7_man cX7_man 5 none (7) (149) G [.ref o] K I J X A B Q (xsu "PailRow$Fault" out.1) out.2.1 out.2.2.1 out.2.2.2.1 out.2.2.2.2.1 out.2.2.2.2.2.1 out.2.2.2.2.2.2.1 out.2.2.2.2.2.2.2.1 1 4 := by
  refine GMetX.of (y := yX7_man) rfl (Nat.le_of_ble_eq_true rfl) (la := [(0, .ref o)]) rfl ?_
  intro p e s m below meth c ls hx hb hr hml hlocks hts hown hname ht hG hR hW hl
  have hown : s.vm.findClass RX7 = some m.cls := hown
  have hS : va_S (gA G) s.heap s.heap [] := va_S.rf
  have hz : (∃ a, K a ≠ none) → G.2.2 ≤ s.heap.size := fun ⟨a, h⟩ => Nat.le_of_lt (Nat.lt_of_le_of_lt (hR.ge h) (hR.lt h))
  have hend : ∀ (v : Unit), out.1 = .inr v → ∀ (pc : Nat) (H : Heap) (locs : List Loc) (ls : Array Slot), decode cX7_man pc = .ok (.return_, 1) → RS G out.2.1 out.2.2.1 out.2.2.2.1 out.2.2.2.2.1 out.2.2.2.2.2.1 out.2.2.2.2.2.2.1 out.2.2.2.2.2.2.2.1 H → va_S (gA G) s.heap H locs → W p l e ({ frames := 7, cells := 1, slots := 4, locals := 149 } : Room) s m ([.ref o] : List Value).toArray below meth c H locs 1 4 (vx_MQ below (xQ G (xsu "PailRow$Fault" out.1) out.2.1 out.2.2.1 out.2.2.2.1 out.2.2.2.2.1 out.2.2.2.2.2.1 out.2.2.2.2.2.2.1 out.2.2.2.2.2.2.2.1) (xX G (xsu "PailRow$Fault" out.1) out.2.1 out.2.2.1 out.2.2.2.1 out.2.2.2.2.1 out.2.2.2.2.2.1 out.2.2.2.2.2.2.1 out.2.2.2.2.2.2.2.1) ([.ref o] : List Value).toArray s 1 4 (gA G)) (F0 m pc ls []) := fun v hv pc H locs ls hd hR hS => x_vret hx hb hr hlocks hG hR hS (by rw [hv]; rfl) hd
  have hthr : ∀ (b : Nat), out.1 = .inl b → ∀ (pc : Nat) (H : Heap) (locs : List Loc) (ls : Array Slot) (rest : List Value), out.2.1 b = some (.inl 1) → RS G out.2.1 out.2.2.1 out.2.2.2.1 out.2.2.2.2.1 out.2.2.2.2.2.1 out.2.2.2.2.2.2.1 out.2.2.2.2.2.2.2.1 H → va_S (gA G) s.heap H locs → vx_W p l e ({ frames := 7, cells := 1, slots := 4, locals := 149 } : Room) s m ([.ref o] : List Value).toArray below meth c H locs 1 4 (vx_MQ below (xQ G (xsu "PailRow$Fault" out.1) out.2.1 out.2.2.1 out.2.2.2.1 out.2.2.2.2.1 out.2.2.2.2.2.1 out.2.2.2.2.2.2.1 out.2.2.2.2.2.2.2.1) (xX G (xsu "PailRow$Fault" out.1) out.2.1 out.2.2.1 out.2.2.2.1 out.2.2.2.2.1 out.2.2.2.2.2.1 out.2.2.2.2.2.2.1 out.2.2.2.2.2.2.2.1) ([.ref o] : List Value).toArray s 1 4 (gA G)) (F0 m pc ls rest) b := fun b hn pc H locs ls rest hk hR hS => x_out (ci := 1) ht hlocks hG hR hS hk rfl (by rw [hn]; rfl)
  generalize vx_MQ below (xQ G (xsu "PailRow$Fault" out.1) out.2.1 out.2.2.1 out.2.2.2.1 out.2.2.2.2.1 out.2.2.2.2.2.1 out.2.2.2.2.2.2.1 out.2.2.2.2.2.2.2.1) (xX G (xsu "PailRow$Fault" out.1) out.2.1 out.2.2.1 out.2.2.2.1 out.2.2.2.2.1 out.2.2.2.2.2.1 out.2.2.2.2.2.2.1 out.2.2.2.2.2.2.2.1) ([.ref o] : List Value).toArray s 1 4 (gA G) = Z at hend hthr ⊢
  generalize ([.ref o] : List Value).toArray = args at hts hend hthr ⊢
  unfold w7_man at hf
  obtain ⟨k0, hf⟩ := gdp_some hf
  refine lv_aload_n hx hb dX7_man_0 rfl (lv_at hl 0 rfl) ?_
  refine lv_aload_n hx hb dX7_man_1 rfl (lv_at hl 0 rfl) ?_
  obtain ⟨a2, ha2, hf⟩ := bind_s hf
  obtain ⟨g3, hf⟩ := gdp_some hf
  obtain ⟨g4, hf⟩ := gdp_some hf
  obtain ⟨g5, hf⟩ := gdp_some hf
  obtain ⟨g6, hf⟩ := gdp_some hf
  obtain ⟨g7, hf⟩ := gdp_some hf
  obtain ⟨g8, hf⟩ := gdp_some hf
  obtain ⟨r1, hr1, hf⟩ := bind_s hf
  refine x0_gor (vx_runU (As := []) (rest := [.ref o]) (b := o) ⟨hx, hb, hml, hown, hts⟩ (m6_isNameY l G K I J X A B Q o a2 g3 g4 ha2 g5 g6 g7 g8 (I 502 o) (I 503 o) (I 505 o) (A (a2 + 1)) rfl rfl rfl rfl r1 hr1) (va_cwU (x := ⟨"PailRow$YardReader", "isName", "()Z"⟩) (owner := "PailRow$Reader") 0 hts gu_X7_100_5 rfl rfl rfl rfl ⟨by decide +kernel, by decide +kernel, by decide +kernel⟩ ⟨Nat.le_of_ble_eq_true rfl, Nat.le_of_ble_eq_true rfl⟩) (x_preV hG hR hW hS g3.1 rfl) rfl rfl hl.1 rfl (lv_room (Nat.le_of_ble_eq_true rfl)) dX7_man_2 ⟨Nat.zero_le _, Nat.zero_le _⟩) hS (fun H locs hR hS => ?_)
  refine lv_iconst (v := 1) hx hb dX7_man_5 li_1 ?_
  obtain ⟨a10, ha10, hf⟩ := bind_s hf
  obtain ⟨g11, hf⟩ := gdp_some hf
  obtain ⟨g12, hf⟩ := gdp_some hf
  obtain ⟨g13, hf⟩ := gdp_some hf
  obtain ⟨r9, hr9, hf⟩ := bind_s hf
  refine x0_gou (vx_runU (As := [.int r1, .int (1 : Int32)]) (rest := []) (b := o) ⟨hx, hb, hml, hown, hts⟩ (m6_mustY l G K I J X A B Q o a10 g3 g11 g12 ha10 g13 r1 (1 : Int32) (I 106 (a10 + 2)) (I 107 (a10 + 2)) (I 502 o) rfl rfl rfl r9 hr9) (va_cwU (x := ⟨"PailRow$YardReader", "must", "(ZI)V"⟩) (owner := "PailRow$Reader") 2 hts gu_X7_35_5 rfl rfl rfl rfl ⟨by decide +kernel, by decide +kernel, by decide +kernel⟩ ⟨Nat.le_of_ble_eq_true rfl, Nat.le_of_ble_eq_true rfl⟩) (x_preV hG hR hW hS g3.1 rfl) rfl rfl hl.1 rfl (lv_room (Nat.le_of_ble_eq_true rfl)) dX7_man_6 ⟨Nat.zero_le _, Nat.zero_le _⟩) hS (fun H locs hnv15 hR hS => ?_) (fun v15 H locs hvv15 hR hS => ?_)
  · have hf := tr_n hnv15 hf
    obtain ⟨Im14, eIm14, hf⟩ := lt_some hf
    rw [← eIm14] at hR
    obtain ⟨k17, hf⟩ := gdp_some hf
    obtain ⟨c18, hf⟩ := gdp_some hf
    refine vx_widen c18.1 c18.2 ?_
    obtain rfl := some_i hf
    exact hthr _ rfl _ _ _ _ _ k17 hR hS
  have hf := tr_s hvv15 hf
  obtain ⟨Im14, eIm14, hf⟩ := lt_some hf
  rw [← eIm14] at hR
  refine lv_aload_n hx hb dX7_man_9 rfl (lv_at hl 0 rfl) ?_
  refine lv_aload_n hx hb dX7_man_10 rfl (lv_at hl 0 rfl) ?_
  refine lv_aload_n hx hb dX7_man_11 rfl (lv_at hl 0 rfl) ?_
  obtain ⟨k19, hf⟩ := gdp_some hf
  obtain ⟨x20, ex20, hf⟩ := lt_some hf
  refine g_getx hx hb hts hown hG hR gFx_X7_15_5 k19 dX7_man_12 ?_
  rw [← ex20]
  obtain ⟨a21, ha21, hf⟩ := bind_s hf
  try rw [ha21]
  obtain ⟨a23, ha23, hf⟩ := bind_s hf
  obtain ⟨g24, hf⟩ := gdp_some hf
  obtain ⟨g25, hf⟩ := gdp_some hf
  obtain ⟨g26, hf⟩ := gdp_some hf
  obtain ⟨r22, hr22, hf⟩ := bind_s hf
  refine g0_cU (rm := (0, 0)) (As := [.ref a21]) (rest := [.ref o]) ⟨hx, hb, hml, hown, hts⟩ hG hR hS (m6_manY l G K Im14 J X A B Q o a21 a23 g3 g24 g25 ha23 (Im14 303 a21) (J 506 o) (Q (a21 + 1)) (J 1200) rfl rfl rfl rfl g26 r22 hr22) (va_cwU (x := ⟨"PailRow$YardReader", "man", "(LPailRow$Yard;)I"⟩) (owner := "PailRow$Reader") 1 hts gu_X7_104_5 rfl rfl rfl rfl ⟨by decide +kernel, by decide +kernel, by decide +kernel⟩ ⟨Nat.le_of_ble_eq_true rfl, Nat.le_of_ble_eq_true rfl⟩) g3.1 rfl rfl hl.1 (Nat.le_of_ble_eq_true rfl) dX7_man_15 ⟨Nat.zero_le _, Nat.zero_le _⟩ rfl (fun H locs hR hS => ?_)
  refine lv_iconst (v := -1) hx hb dX7_man_18 li_m1 ?_
  have hj27 : ∀ (j27_s0 : Int32), w7_man_j27 G.2.2 (aK G) o K J X A B Q n Im14 a21 j27_s0 = some out → ∀ (H : Heap) (locs : List Loc) (ls : Array Slot), RS G K Im14 J X A B Q H → va_S (gA G) s.heap H locs → lv_has ls 5 [(0, .ref o)] → W p l e ({ frames := 7, cells := 1, slots := 4, locals := 149 } : Room) s m args below meth c H locs 0 0 Z (F0 m 27 ls [.int j27_s0, .ref o]) := by
    intro j27_s0 hf H locs ls hR hS hl
    unfold w7_man_j27 at hf
    refine lv_iconst (v := 3) hx hb dX7_man_27 li_3 ?_
    obtain ⟨a28, ha28, hf⟩ := bind_s hf
    obtain ⟨g29, hf⟩ := gdp_some hf
    obtain ⟨g30, hf⟩ := gdp_some hf
    obtain ⟨g31, hf⟩ := gdp_some hf
    obtain ⟨r27, hr27, hf⟩ := bind_s hf
    refine x0_gou (vx_runU (As := [.int j27_s0, .int (3 : Int32)]) (rest := []) (b := o) ⟨hx, hb, hml, hown, hts⟩ (m6_mustY l G K Im14 J X A B Q o a28 g3 g29 g30 ha28 g31 j27_s0 (3 : Int32) (Im14 106 (a28 + 2)) (Im14 107 (a28 + 2)) (Im14 502 o) rfl rfl rfl r27 hr27) (va_cwU (x := ⟨"PailRow$YardReader", "must", "(ZI)V"⟩) (owner := "PailRow$Reader") 2 hts gu_X7_35_5 rfl rfl rfl rfl ⟨by decide +kernel, by decide +kernel, by decide +kernel⟩ ⟨Nat.le_of_ble_eq_true rfl, Nat.le_of_ble_eq_true rfl⟩) (x_preV hG hR hW hS g3.1 rfl) rfl rfl hl.1 rfl (lv_room (Nat.le_of_ble_eq_true rfl)) dX7_man_28 ⟨Nat.zero_le _, Nat.zero_le _⟩) hS (fun H locs hnv33 hR hS => ?_) (fun v33 H locs hvv33 hR hS => ?_)
    · have hf := tr_n hnv33 hf
      obtain ⟨Im32, eIm32, hf⟩ := lt_some hf
      rw [← eIm32] at hR
      obtain ⟨k35, hf⟩ := gdp_some hf
      obtain ⟨c36, hf⟩ := gdp_some hf
      refine vx_widen c36.1 c36.2 ?_
      obtain rfl := some_i hf
      exact hthr _ rfl _ _ _ _ _ k35 hR hS
    have hf := tr_s hvv33 hf
    obtain ⟨Im32, eIm32, hf⟩ := lt_some hf
    rw [← eIm32] at hR
    refine lv_aload_n hx hb dX7_man_31 rfl (lv_at hl 0 rfl) ?_
    obtain ⟨v37, ev37, hf⟩ := lt_some hf
    refine n_getj (v := v37) hx hb hts hown hG hR gFj_X7_107_5 k19 ev37.symm dX7_man_32 ?_
    refine lv_lstore_n (lv' := [(1, .long v37), (0, .ref o)]) hx hb dX7_man_35 rfl hl (by decide) rfl (fun ls hl => ?_)
    refine lv_aload_n hx hb dX7_man_36 rfl (lv_at hl 1 rfl) ?_
    obtain ⟨a39, ha39, hf⟩ := bind_s hf
    obtain ⟨g40, hf⟩ := gdp_some hf
    obtain ⟨r38, hr38, hf⟩ := bind_s hf
    refine g0_cUv (rm := (3, 65)) (As := []) (rest := []) ⟨hx, hb, hml, hown, hts⟩ hG hR hS (m6_nextY l G K Im32 J X A B Q o a39 g3 g40 ha39 (Im32 2 a39) (Im32 500 o) (Im32 501 o) (Im32 502 o) (Im32 503 o) (Im32 504 o) (Im32 505 o) (J 506 o) (A (a39 + 1)) rfl rfl rfl rfl rfl rfl rfl rfl rfl r38 hr38) (va_cwU (x := ⟨"PailRow$YardReader", "next", "()V"⟩) (owner := "PailRow$Reader") 0 hts gu_X7_47_5 rfl rfl rfl rfl ⟨by decide +kernel, by decide +kernel, by decide +kernel⟩ ⟨Nat.le_of_ble_eq_true rfl, Nat.le_of_ble_eq_true rfl⟩) g3.1 rfl rfl hl.1 (Nat.le_of_ble_eq_true rfl) dX7_man_37 ⟨Nat.zero_le _, Nat.zero_le _⟩ rfl (fun H locs hR hS => ?_)
    obtain ⟨Im41, eIm41, hf⟩ := lt_some hf
    obtain ⟨Jm42, eJm42, hf⟩ := lt_some hf
    rw [← eIm41, ← eJm42] at hR
    refine lv_aload_n hx hb dX7_man_40 rfl (lv_at hl 1 rfl) ?_
    refine lv_iconst (v := 1) hx hb dX7_man_41 li_1 ?_
    refine lv_bipush (v := 9) hx hb dX7_man_42 lb_9 ?_
    obtain ⟨a44, ha44, hf⟩ := bind_s hf
    obtain ⟨g45, hf⟩ := gdp_some hf
    obtain ⟨g46, hf⟩ := gdp_some hf
    obtain ⟨g47, hf⟩ := gdp_some hf
    obtain ⟨r43, hr43, hf⟩ := bind_s hf
    refine x0_goi (vx_runU (As := [.int (1 : Int32), .int (9 : Int32)]) (rest := []) (b := o) ⟨hx, hb, hml, hown, hts⟩ (m6_numberY l G K Im41 Jm42 X A B Q o a44 g3 g45 g46 ha44 g47 (1 : Int32) (9 : Int32) (Im41 2 a44) (Im41 106 (a44 + 2)) (Im41 107 (a44 + 2)) (Im41 500 o) (Im41 501 o) (Im41 502 o) (Im41 503 o) (Im41 504 o) (Im41 505 o) (Jm42 506 o) (A (a44 + 1)) rfl rfl rfl rfl rfl rfl rfl rfl rfl rfl rfl r43 hr43) (va_cwU (x := ⟨"PailRow$YardReader", "number", "(II)I"⟩) (owner := "PailRow$Reader") 2 hts gu_X7_60_5 rfl rfl rfl rfl ⟨by decide +kernel, by decide +kernel, by decide +kernel⟩ ⟨Nat.le_of_ble_eq_true rfl, Nat.le_of_ble_eq_true rfl⟩) (x_preV hG hR hW hS g3.1 rfl) rfl rfl hl.1 rfl (lv_room (Nat.le_of_ble_eq_true rfl)) dX7_man_44 ⟨Nat.zero_le _, Nat.zero_le _⟩) hS (fun H locs hnv50 hR hS => ?_) (fun v50 H locs hvv50 hR hS => ?_)
    · have hf := tr_n hnv50 hf
      obtain ⟨Im48, eIm48, hf⟩ := lt_some hf
      obtain ⟨Jm49, eJm49, hf⟩ := lt_some hf
      rw [← eIm48, ← eJm49] at hR
      obtain ⟨k52, hf⟩ := gdp_some hf
      obtain ⟨c53, hf⟩ := gdp_some hf
      refine vx_widen c53.1 c53.2 ?_
      obtain rfl := some_i hf
      exact hthr _ rfl _ _ _ _ _ k52 hR hS
    have hf := tr_s hvv50 hf
    obtain ⟨Im48, eIm48, hf⟩ := lt_some hf
    obtain ⟨Jm49, eJm49, hf⟩ := lt_some hf
    rw [← eIm48, ← eJm49] at hR
    refine lv_istore_n (lv' := [(3, .int v50), (1, .long v37), (0, .ref o)]) hx hb dX7_man_47 rfl hl (by decide) rfl (fun ls hl => ?_)
    refine lv_aload_n hx hb dX7_man_48 rfl (lv_at hl 2 rfl) ?_
    refine lv_iconst (v := 1) hx hb dX7_man_49 li_1 ?_
    refine lv_bipush (v := 9) hx hb dX7_man_50 lb_9 ?_
    obtain ⟨a55, ha55, hf⟩ := bind_s hf
    obtain ⟨g56, hf⟩ := gdp_some hf
    obtain ⟨g57, hf⟩ := gdp_some hf
    obtain ⟨g58, hf⟩ := gdp_some hf
    obtain ⟨r54, hr54, hf⟩ := bind_s hf
    refine x0_goi (vx_runU (As := [.int (1 : Int32), .int (9 : Int32)]) (rest := []) (b := o) ⟨hx, hb, hml, hown, hts⟩ (m6_numberY l G K Im48 Jm49 X A B Q o a55 g3 g56 g57 ha55 g58 (1 : Int32) (9 : Int32) (Im48 2 a55) (Im48 106 (a55 + 2)) (Im48 107 (a55 + 2)) (Im48 500 o) (Im48 501 o) (Im48 502 o) (Im48 503 o) (Im48 504 o) (Im48 505 o) (Jm49 506 o) (A (a55 + 1)) rfl rfl rfl rfl rfl rfl rfl rfl rfl rfl rfl r54 hr54) (va_cwU (x := ⟨"PailRow$YardReader", "number", "(II)I"⟩) (owner := "PailRow$Reader") 2 hts gu_X7_60_5 rfl rfl rfl rfl ⟨by decide +kernel, by decide +kernel, by decide +kernel⟩ ⟨Nat.le_of_ble_eq_true rfl, Nat.le_of_ble_eq_true rfl⟩) (x_preV hG hR hW hS g3.1 rfl) rfl rfl hl.1 rfl (lv_room (Nat.le_of_ble_eq_true rfl)) dX7_man_52 ⟨Nat.zero_le _, Nat.zero_le _⟩) hS (fun H locs hnv61 hR hS => ?_) (fun v61 H locs hvv61 hR hS => ?_)
    · have hf := tr_n hnv61 hf
      obtain ⟨Im59, eIm59, hf⟩ := lt_some hf
      obtain ⟨Jm60, eJm60, hf⟩ := lt_some hf
      rw [← eIm59, ← eJm60] at hR
      obtain ⟨k63, hf⟩ := gdp_some hf
      obtain ⟨c64, hf⟩ := gdp_some hf
      refine vx_widen c64.1 c64.2 ?_
      obtain rfl := some_i hf
      exact hthr _ rfl _ _ _ _ _ k63 hR hS
    have hf := tr_s hvv61 hf
    obtain ⟨Im59, eIm59, hf⟩ := lt_some hf
    obtain ⟨Jm60, eJm60, hf⟩ := lt_some hf
    rw [← eIm59, ← eJm60] at hR
    refine lv_istore (lv' := [(4, .int v61), (3, .int v50), (1, .long v37), (0, .ref o)]) hx hb dX7_man_55 hl (by decide) rfl (fun ls hl => ?_)
    refine lv_aload_n hx hb dX7_man_57 rfl (lv_at hl 3 rfl) ?_
    refine g_getx hx hb hts hown hG hR gFx_X7_15_5 k19 dX7_man_58 ?_
    rw [← ex20]
    try rw [ha21]
    obtain ⟨k65, hf⟩ := gdp_some hf
    obtain ⟨x66, ex66, hf⟩ := lt_some hf
    refine g_getx hx hb hts hown hG hR gFx_X7_111_3 k65 dX7_man_61 ?_
    rw [← ex66]
    refine lv_aload_n hx hb dX7_man_64 rfl (lv_at hl 3 rfl) ?_
    refine g_getx hx hb hts hown hG hR gFx_X7_15_5 k19 dX7_man_65 ?_
    rw [← ex20]
    try rw [ha21]
    obtain ⟨v67, ev67, hf⟩ := lt_some hf
    refine n_geti (v := v67) hx hb hts hown hG hR gFi_X7_39_3 k65 ev67.symm dX7_man_68 ?_
    obtain ⟨c68, hf⟩ := gdp_some hf
    obtain ⟨c69, hf⟩ := gdp_some hf
    refine s_new (n := n) (ci := 12) (T := TX15) (N := 4) hx hb hts in_X15 tyX15 tyX15_ok hown (hts _ q977) (hts _ q978) (hts _ q123) hG hR c68 hS (hz k0) rfl (by decide) hdv_12 c69.1 c69.2 dX7_man_71 (fun H hR hS => ?_)
    obtain ⟨Km70, eKm70, hf⟩ := lt_some hf
    obtain ⟨Im71, eIm71, hf⟩ := lt_some hf
    obtain ⟨Jm72, eJm72, hf⟩ := lt_some hf
    obtain ⟨Xm73, eXm73, hf⟩ := lt_some hf
    rw [← eKm70, ← eIm71, ← eJm72, ← eXm73] at hR
    obtain ⟨n74, en74, hf⟩ := lt_some hf
    obtain ⟨u75, eu75, hf⟩ := lt_some hf
    obtain ⟨v76, ev76, hf⟩ := lt_some hf
    refine W.widen (k := u75) (n := v76) (Nat.le_of_eq eu75.symm) (Nat.le_of_eq ev76.symm) ?_
    refine lv_dup hx hb dX7_man_74 rfl ?_
    refine lv_lload_n hx hb dX7_man_75 rfl (lv_at hl 2 rfl) ?_
    refine lv_iload_n hx hb dX7_man_76 rfl (lv_at hl 1 rfl) ?_
    refine lv_iload hx hb dX7_man_77 (lv_at hl 0 rfl) ?_
    refine lv_aload_n hx hb dX7_man_79 rfl (lv_at hl 3 rfl) ?_
    refine lv_iconst (v := 1) hx hb dX7_man_80 li_1 ?_
    refine lv_bipush (v := 99) hx hb dX7_man_81 lb_99 ?_
    obtain ⟨c78, hf⟩ := gdp_some hf
    obtain ⟨a79, ha79, hf⟩ := bind_s hf
    obtain ⟨g80, hf⟩ := gdp_some hf
    obtain ⟨g81, hf⟩ := gdp_some hf
    obtain ⟨g82, hf⟩ := gdp_some hf
    obtain ⟨g83, hf⟩ := gdp_some hf
    obtain ⟨r77, hr77, hf⟩ := bind_s hf
    refine x0_goi (vx_runU (As := [.int (1 : Int32), .int (99 : Int32)]) (rest := [.int v61, .int v50, .long v37, .ref n, .ref n, .int v67, va_rf x66]) (b := o) ⟨hx, hb, hml, hown, hts⟩ (m6_numberY l G Km70 Im71 Jm72 Xm73 A B Q o a79 g80 g81 g82 ha79 g83 (1 : Int32) (99 : Int32) (Im71 2 a79) (Im71 106 (a79 + 2)) (Im71 107 (a79 + 2)) (Im71 500 o) (Im71 501 o) (Im71 502 o) (Im71 503 o) (Im71 504 o) (Im71 505 o) (Jm72 506 o) (A (a79 + 1)) rfl rfl rfl rfl rfl rfl rfl rfl rfl rfl rfl r77 hr77) (va_cwU (x := ⟨"PailRow$YardReader", "number", "(II)I"⟩) (owner := "PailRow$Reader") 2 hts gu_X7_60_5 rfl rfl rfl rfl ⟨by decide +kernel, by decide +kernel, by decide +kernel⟩ ⟨Nat.le_of_ble_eq_true rfl, Nat.le_of_ble_eq_true rfl⟩) (x_preV hG hR hW hS g80.1 rfl) rfl rfl hl.1 rfl (lv_room (by simp [va_rf_c, cat_r, cat_i, cat_l, cat_n])) dX7_man_83 ⟨c78.1, c78.2⟩) hS (fun H locs hnv86 hR hS => ?_) (fun v86 H locs hvv86 hR hS => ?_)
    · have hf := tr_n hnv86 hf
      obtain ⟨Im84, eIm84, hf⟩ := lt_some hf
      obtain ⟨Jm85, eJm85, hf⟩ := lt_some hf
      rw [← eIm84, ← eJm85] at hR
      obtain ⟨k88, hf⟩ := gdp_some hf
      obtain ⟨c89, hf⟩ := gdp_some hf
      refine vx_widen c89.1 c89.2 ?_
      obtain rfl := some_i hf
      exact hthr _ rfl _ _ _ _ _ k88 hR hS
    have hf := tr_s hvv86 hf
    obtain ⟨Im84, eIm84, hf⟩ := lt_some hf
    obtain ⟨Jm85, eJm85, hf⟩ := lt_some hf
    rw [← eIm84, ← eJm85] at hR
    obtain ⟨r90, hr90, hf⟩ := bind_s hf
    refine x0_gor (vx_runI (As := [.long v37, .int v50, .int v61, .int v86]) (rest := [.ref n, .int v67, va_rf x66]) (b := n) ⟨hx, hb, hml, hown, hts⟩ (m15_init_w l G Km70 Im84 Jm85 Xm73 A B Q n74 n v37 v50 v61 v86 r90 hr90) ⟨callB_of 4 hts (lw_meth q981) rfl rfl rfl (hts _ q123) (hts _ q979) (by decide +kernel) ⟨Nat.le_of_ble_eq_true rfl, Nat.le_of_ble_eq_true rfl⟩, rfl, hts _ q980⟩ (x_preS hG hR hW hS) rfl rfl hl.1 rfl (lv_room (by simp [va_rf_c, cat_r, cat_i, cat_l, cat_n])) dX7_man_86 ⟨c78.1, c78.2⟩) hS (fun H locs hR hS => ?_)
    obtain ⟨a91, ha91, hf⟩ := bind_s hf
    try rw [ha91]
    obtain ⟨k92, hf⟩ := gdp_some hf
    obtain ⟨n93, hn93, hf⟩ := bind_s hf
    have kn93 := alen_k hn93
    obtain ⟨c94, hf⟩ := gdp_some hf
    refine g_aast (t := 0) hx hb hG hR hS kn93 rfl rfl k92 c94 dX7_man_89 (fun H locs hR hS => ?_)
    obtain ⟨Qm95, eQm95, hf⟩ := lt_some hf
    rw [← eQm95] at hR
    refine lv_aload_n hx hb dX7_man_90 rfl (lv_at hl 3 rfl) ?_
    obtain ⟨k96, hf⟩ := gdp_some hf
    obtain ⟨x97, ex97, hf⟩ := lt_some hf
    refine g_getx hx hb hts hown hG hR gFx_X7_15_5 k96 dX7_man_91 ?_
    rw [← ex97]
    refine lv_dup hx hb dX7_man_94 (va_rf_c _) ?_
    obtain ⟨a98, ha98, hf⟩ := bind_s hf
    try rw [ha98]
    obtain ⟨k99, hf⟩ := gdp_some hf
    obtain ⟨v100, ev100, hf⟩ := lt_some hf
    refine n_geti (v := v100) hx hb hts hown hG hR gFi_X7_39_3 k99 ev100.symm dX7_man_95 ?_
    refine lv_iconst (v := 1) hx hb dX7_man_98 li_1 ?_
    obtain ⟨v101, ev101, hf⟩ := lt_some hf
    refine n_iadd hx hb ev101 dX7_man_99 ?_
    refine g_puti (v := v101) hx hb hts hown hG hR hS gPi_X7_39_3 k99 dX7_man_100 (fun H locs hR hS => ?_)
    obtain ⟨Im102, eIm102, hf⟩ := lt_some hf
    rw [← eIm102] at hR
    obtain ⟨c103, hf⟩ := gdp_some hf
    refine W.widen c103.1 c103.2 ?_
    obtain rfl := some_i hf
    exact hend _ rfl _ _ _ _ dX7_man_103 hR hS
  refine lv_icmp_ne (tgt := 26) hx hb dX7_man_19 (by decide) (fun c104 => ?_) (fun c104 => ?_)
  · have hf := ite_f c104 hf
    refine lv_iconst (v := 0) hx hb dX7_man_26 li_0 ?_
    exact hj27 (0 : Int32) hf _ _ _ hR hS (lv_sub hl [0] rfl)
  · have hf := ite_t c104 hf
    refine lv_iconst (v := 1) hx hb dX7_man_22 li_1 ?_
    refine lv_goto (tgt := 27) hx hb dX7_man_23 (by decide) ?_
    exact hj27 (1 : Int32) hf _ _ _ hR hS (lv_sub hl [0] rfl)
noncomputable def w7_line_j226 (o : Nat) (K : gK) (J : gJ) (X : gX) (A : gI) (B : gJ) (Q : gX) (n : Nat) (Im164 : gI) (j226_s0 : Int32) : Option ((Nat ⊕ Unit) × gK × gI × gJ × gX × gI × gJ × gX × Nat) :=
  (X 507 o).bind fun a167 =>
  gdp (Sh K X a167 0 rows0) <|
  gdp (K (a167 + 2) = some (.inl 1)) <|
  gdp (X 4 a167 = some (a167 + 2)) <|
  (f6_mustY j226_s0 (1 : Int32) (Im164 106 (a167 + 2)) (Im164 107 (a167 + 2)) (Im164 502 o)).bind fun r166 =>
  tr r166.1 (
    lt ((ov Im164 [(106, (a167 + 2), r166.2.1), (107, (a167 + 2), r166.2.2)])) fun Im171 =>
    gdp (K (a167 + 2) = some (.inl 1)) <|
    gdp (0 ≤ 1 ∧ 0 ≤ 4) <|
    some ((.inl (a167 + 2)), K, Im171, J, X, A, B, Q, n)
    ) fun v172 =>
  lt ((ov Im164 [(106, (a167 + 2), r166.2.1), (107, (a167 + 2), r166.2.2)])) fun Im171 =>
  (X 507 o).bind fun a177 =>
  gdp (Sh K X a177 0 rows0) <|
  (f6_nextY (Im171 2 a177) (Im171 500 o) (Im171 501 o) (Im171 502 o) (Im171 503 o) (Im171 504 o) (Im171 505 o) (J 506 o) (A (a177 + 1))).bind fun r176 =>
  lt ((ov Im171 [(501, o, r176.1), (502, o, r176.2.1), (503, o, r176.2.2.1), (504, o, r176.2.2.2.1), (505, o, r176.2.2.2.2.1)])) fun Im179 =>
  lt ((ov J [(506, o, r176.2.2.2.2.2)])) fun Jm180 =>
  gdp (0 ≤ 1 ∧ 0 ≤ 4) <|
  some ((.inr ()), K, Im179, Jm180, X, A, B, Q, n)

noncomputable def w7_line (zz : Nat) (adS : Nat → Nat) (o : Nat) (p1 : Int32) (K : gK) (I : gI) (J : gJ) (X : gX) (A : gI) (B : gJ) (Q : gX) (n : Nat) : Option ((Nat ⊕ Unit) × gK × gI × gJ × gX × gI × gJ × gX × Nat) :=
  gdp (∃ a, K a ≠ none) <|
  if p1 = 0 then
    gdp (K o = some (.inl 5)) <|
    gdp (0 + 1 ≤ 1 ∧ 0 + 4 ≤ 4) <|
    (w7_man zz adS o K I J X A B Q n).bind fun r3 =>
    trs r3.1 (fun b6 =>
      gdp (r3.2.1 b6 = some (.inl 1)) <|
      gdp ((0 + 1) ≤ 1 ∧ (0 + 4) ≤ 4) <|
      some ((.inl b6), r3.2.1, r3.2.2.1, r3.2.2.2.1, r3.2.2.2.2.1, r3.2.2.2.2.2.1, r3.2.2.2.2.2.2.1, r3.2.2.2.2.2.2.2.1, r3.2.2.2.2.2.2.2.2)
      ) fun v5 =>
    gdp ((0 + 1) ≤ 1 ∧ (0 + 4) ≤ 4) <|
    some ((.inr ()), r3.2.1, r3.2.2.1, r3.2.2.2.1, r3.2.2.2.2.1, r3.2.2.2.2.2.1, r3.2.2.2.2.2.2.1, r3.2.2.2.2.2.2.2.1, r3.2.2.2.2.2.2.2.2)
  else
  if p1 = 1 then
    gdp (K o = some (.inl 5)) <|
    lt (X 508 o) fun x12 =>
    (X 507 o).bind fun a14 =>
    gdp (Sh K X o 5 rows5) <|
    gdp (Sh K X a14 0 rows0) <|
    gdp (K (a14 + 2) = some (.inl 1)) <|
    gdp (X 4 a14 = some (a14 + 2)) <|
    (f6_numberY (10 : Int32) (99 : Int32) (I 2 a14) (I 106 (a14 + 2)) (I 107 (a14 + 2)) (I 500 o) (I 501 o) (I 502 o) (I 503 o) (I 504 o) (I 505 o) (J 506 o) (A (a14 + 1))).bind fun r13 =>
    tr r13.1 (
      lt ((ov I [(106, (a14 + 2), r13.2.1), (107, (a14 + 2), r13.2.2.1), (501, o, r13.2.2.2.1), (502, o, r13.2.2.2.2.1), (503, o, r13.2.2.2.2.2.1), (504, o, r13.2.2.2.2.2.2.1), (505, o, r13.2.2.2.2.2.2.2.1)])) fun Im19 =>
      lt ((ov J [(506, o, r13.2.2.2.2.2.2.2.2)])) fun Jm20 =>
      gdp (K (a14 + 2) = some (.inl 1)) <|
      gdp (0 ≤ 1 ∧ 0 ≤ 4) <|
      some ((.inl (a14 + 2)), K, Im19, Jm20, X, A, B, Q, n)
      ) fun v21 =>
    lt ((ov I [(106, (a14 + 2), r13.2.1), (107, (a14 + 2), r13.2.2.1), (501, o, r13.2.2.2.1), (502, o, r13.2.2.2.2.1), (503, o, r13.2.2.2.2.2.1), (504, o, r13.2.2.2.2.2.2.1), (505, o, r13.2.2.2.2.2.2.2.1)])) fun Im19 =>
    lt ((ov J [(506, o, r13.2.2.2.2.2.2.2.2)])) fun Jm20 =>
    (x12).bind fun a25 =>
    gdp (K a25 = some (.inl 3)) <|
    lt (i_up Im19 306 a25 v21) fun Im27 =>
    gdp (0 ≤ 1 ∧ 0 ≤ 4) <|
    some ((.inr ()), K, Im27, Jm20, X, A, B, Q, n)
  else
  if p1 = 2 then
    gdp (K o = some (.inl 5)) <|
    lt (X 508 o) fun x31 =>
    (X 507 o).bind fun a33 =>
    gdp (Sh K X o 5 rows5) <|
    gdp (Sh K X a33 0 rows0) <|
    gdp (K (a33 + 2) = some (.inl 1)) <|
    gdp (X 4 a33 = some (a33 + 2)) <|
    (f6_numberY (1 : Int32) (30 : Int32) (I 2 a33) (I 106 (a33 + 2)) (I 107 (a33 + 2)) (I 500 o) (I 501 o) (I 502 o) (I 503 o) (I 504 o) (I 505 o) (J 506 o) (A (a33 + 1))).bind fun r32 =>
    tr r32.1 (
      lt ((ov I [(106, (a33 + 2), r32.2.1), (107, (a33 + 2), r32.2.2.1), (501, o, r32.2.2.2.1), (502, o, r32.2.2.2.2.1), (503, o, r32.2.2.2.2.2.1), (504, o, r32.2.2.2.2.2.2.1), (505, o, r32.2.2.2.2.2.2.2.1)])) fun Im38 =>
      lt ((ov J [(506, o, r32.2.2.2.2.2.2.2.2)])) fun Jm39 =>
      gdp (K (a33 + 2) = some (.inl 1)) <|
      gdp (0 ≤ 1 ∧ 0 ≤ 4) <|
      some ((.inl (a33 + 2)), K, Im38, Jm39, X, A, B, Q, n)
      ) fun v40 =>
    lt ((ov I [(106, (a33 + 2), r32.2.1), (107, (a33 + 2), r32.2.2.1), (501, o, r32.2.2.2.1), (502, o, r32.2.2.2.2.1), (503, o, r32.2.2.2.2.2.1), (504, o, r32.2.2.2.2.2.2.1), (505, o, r32.2.2.2.2.2.2.2.1)])) fun Im38 =>
    lt ((ov J [(506, o, r32.2.2.2.2.2.2.2.2)])) fun Jm39 =>
    (x31).bind fun a44 =>
    gdp (K a44 = some (.inl 3)) <|
    lt (i_up Im38 307 a44 v40) fun Im46 =>
    (X 507 o).bind fun a48 =>
    gdp (Sh K X a48 0 rows0) <|
    gdp (K (a48 + 2) = some (.inl 1)) <|
    gdp (X 4 a48 = some (a48 + 2)) <|
    (f6_numberY (1 : Int32) (20 : Int32) (Im46 2 a48) (Im46 106 (a48 + 2)) (Im46 107 (a48 + 2)) (Im46 500 o) (Im46 501 o) (Im46 502 o) (Im46 503 o) (Im46 504 o) (Im46 505 o) (Jm39 506 o) (A (a48 + 1))).bind fun r47 =>
    tr r47.1 (
      lt ((ov Im46 [(106, (a48 + 2), r47.2.1), (107, (a48 + 2), r47.2.2.1), (501, o, r47.2.2.2.1), (502, o, r47.2.2.2.2.1), (503, o, r47.2.2.2.2.2.1), (504, o, r47.2.2.2.2.2.2.1), (505, o, r47.2.2.2.2.2.2.2.1)])) fun Im52 =>
      lt ((ov Jm39 [(506, o, r47.2.2.2.2.2.2.2.2)])) fun Jm53 =>
      gdp (K (a48 + 2) = some (.inl 1)) <|
      gdp (0 ≤ 1 ∧ 0 ≤ 4) <|
      some ((.inl (a48 + 2)), K, Im52, Jm53, X, A, B, Q, n)
      ) fun v54 =>
    lt ((ov Im46 [(106, (a48 + 2), r47.2.1), (107, (a48 + 2), r47.2.2.1), (501, o, r47.2.2.2.1), (502, o, r47.2.2.2.2.1), (503, o, r47.2.2.2.2.2.1), (504, o, r47.2.2.2.2.2.2.1), (505, o, r47.2.2.2.2.2.2.2.1)])) fun Im52 =>
    lt ((ov Jm39 [(506, o, r47.2.2.2.2.2.2.2.2)])) fun Jm53 =>
    lt (i_up Im52 308 a44 v54) fun Im58 =>
    gdp (0 ≤ 1 ∧ 0 ≤ 4) <|
    some ((.inr ()), K, Im58, Jm53, X, A, B, Q, n)
  else
  if p1 = 3 then
    gdp (K o = some (.inl 5)) <|
    lt (X 508 o) fun x62 =>
    (X 507 o).bind fun a64 =>
    gdp (Sh K X o 5 rows5) <|
    gdp (Sh K X a64 0 rows0) <|
    gdp (K (a64 + 2) = some (.inl 1)) <|
    gdp (X 4 a64 = some (a64 + 2)) <|
    (f6_numberY (1 : Int32) (30 : Int32) (I 2 a64) (I 106 (a64 + 2)) (I 107 (a64 + 2)) (I 500 o) (I 501 o) (I 502 o) (I 503 o) (I 504 o) (I 505 o) (J 506 o) (A (a64 + 1))).bind fun r63 =>
    tr r63.1 (
      lt ((ov I [(106, (a64 + 2), r63.2.1), (107, (a64 + 2), r63.2.2.1), (501, o, r63.2.2.2.1), (502, o, r63.2.2.2.2.1), (503, o, r63.2.2.2.2.2.1), (504, o, r63.2.2.2.2.2.2.1), (505, o, r63.2.2.2.2.2.2.2.1)])) fun Im69 =>
      lt ((ov J [(506, o, r63.2.2.2.2.2.2.2.2)])) fun Jm70 =>
      gdp (K (a64 + 2) = some (.inl 1)) <|
      gdp (0 ≤ 1 ∧ 0 ≤ 4) <|
      some ((.inl (a64 + 2)), K, Im69, Jm70, X, A, B, Q, n)
      ) fun v71 =>
    lt ((ov I [(106, (a64 + 2), r63.2.1), (107, (a64 + 2), r63.2.2.1), (501, o, r63.2.2.2.1), (502, o, r63.2.2.2.2.1), (503, o, r63.2.2.2.2.2.1), (504, o, r63.2.2.2.2.2.2.1), (505, o, r63.2.2.2.2.2.2.2.1)])) fun Im69 =>
    lt ((ov J [(506, o, r63.2.2.2.2.2.2.2.2)])) fun Jm70 =>
    (x62).bind fun a75 =>
    gdp (K a75 = some (.inl 3)) <|
    lt (i_up Im69 309 a75 v71) fun Im77 =>
    (X 507 o).bind fun a79 =>
    gdp (Sh K X a79 0 rows0) <|
    gdp (K (a79 + 2) = some (.inl 1)) <|
    gdp (X 4 a79 = some (a79 + 2)) <|
    (f6_numberY (0 : Int32) (9999 : Int32) (Im77 2 a79) (Im77 106 (a79 + 2)) (Im77 107 (a79 + 2)) (Im77 500 o) (Im77 501 o) (Im77 502 o) (Im77 503 o) (Im77 504 o) (Im77 505 o) (Jm70 506 o) (A (a79 + 1))).bind fun r78 =>
    tr r78.1 (
      lt ((ov Im77 [(106, (a79 + 2), r78.2.1), (107, (a79 + 2), r78.2.2.1), (501, o, r78.2.2.2.1), (502, o, r78.2.2.2.2.1), (503, o, r78.2.2.2.2.2.1), (504, o, r78.2.2.2.2.2.2.1), (505, o, r78.2.2.2.2.2.2.2.1)])) fun Im83 =>
      lt ((ov Jm70 [(506, o, r78.2.2.2.2.2.2.2.2)])) fun Jm84 =>
      gdp (K (a79 + 2) = some (.inl 1)) <|
      gdp (0 ≤ 1 ∧ 0 ≤ 4) <|
      some ((.inl (a79 + 2)), K, Im83, Jm84, X, A, B, Q, n)
      ) fun v85 =>
    lt ((ov Im77 [(106, (a79 + 2), r78.2.1), (107, (a79 + 2), r78.2.2.1), (501, o, r78.2.2.2.1), (502, o, r78.2.2.2.2.1), (503, o, r78.2.2.2.2.2.1), (504, o, r78.2.2.2.2.2.2.1), (505, o, r78.2.2.2.2.2.2.2.1)])) fun Im83 =>
    lt ((ov Jm70 [(506, o, r78.2.2.2.2.2.2.2.2)])) fun Jm84 =>
    lt (i_up Im83 310 a75 v85) fun Im89 =>
    gdp (0 ≤ 1 ∧ 0 ≤ 4) <|
    some ((.inr ()), K, Im89, Jm84, X, A, B, Q, n)
  else
  if p1 = 4 then
    gdp (K o = some (.inl 5)) <|
    lt (X 508 o) fun x93 =>
    (X 507 o).bind fun a95 =>
    gdp (Sh K X o 5 rows5) <|
    gdp (Sh K X a95 0 rows0) <|
    gdp (K (a95 + 2) = some (.inl 1)) <|
    gdp (X 4 a95 = some (a95 + 2)) <|
    (f6_numberY (0 : Int32) (99 : Int32) (I 2 a95) (I 106 (a95 + 2)) (I 107 (a95 + 2)) (I 500 o) (I 501 o) (I 502 o) (I 503 o) (I 504 o) (I 505 o) (J 506 o) (A (a95 + 1))).bind fun r94 =>
    tr r94.1 (
      lt ((ov I [(106, (a95 + 2), r94.2.1), (107, (a95 + 2), r94.2.2.1), (501, o, r94.2.2.2.1), (502, o, r94.2.2.2.2.1), (503, o, r94.2.2.2.2.2.1), (504, o, r94.2.2.2.2.2.2.1), (505, o, r94.2.2.2.2.2.2.2.1)])) fun Im100 =>
      lt ((ov J [(506, o, r94.2.2.2.2.2.2.2.2)])) fun Jm101 =>
      gdp (K (a95 + 2) = some (.inl 1)) <|
      gdp (0 ≤ 1 ∧ 0 ≤ 4) <|
      some ((.inl (a95 + 2)), K, Im100, Jm101, X, A, B, Q, n)
      ) fun v102 =>
    lt ((ov I [(106, (a95 + 2), r94.2.1), (107, (a95 + 2), r94.2.2.1), (501, o, r94.2.2.2.1), (502, o, r94.2.2.2.2.1), (503, o, r94.2.2.2.2.2.1), (504, o, r94.2.2.2.2.2.2.1), (505, o, r94.2.2.2.2.2.2.2.1)])) fun Im100 =>
    lt ((ov J [(506, o, r94.2.2.2.2.2.2.2.2)])) fun Jm101 =>
    (x93).bind fun a106 =>
    gdp (K a106 = some (.inl 3)) <|
    lt (i_up Im100 311 a106 v102) fun Im108 =>
    gdp (0 ≤ 1 ∧ 0 ≤ 4) <|
    some ((.inr ()), K, Im108, Jm101, X, A, B, Q, n)
  else
  if p1 = 5 then
    gdp (K o = some (.inl 5)) <|
    lt (X 508 o) fun x112 =>
    (X 507 o).bind fun a114 =>
    gdp (Sh K X o 5 rows5) <|
    gdp (Sh K X a114 0 rows0) <|
    gdp (K (a114 + 2) = some (.inl 1)) <|
    gdp (X 4 a114 = some (a114 + 2)) <|
    (f6_numberY (1 : Int32) (99 : Int32) (I 2 a114) (I 106 (a114 + 2)) (I 107 (a114 + 2)) (I 500 o) (I 501 o) (I 502 o) (I 503 o) (I 504 o) (I 505 o) (J 506 o) (A (a114 + 1))).bind fun r113 =>
    tr r113.1 (
      lt ((ov I [(106, (a114 + 2), r113.2.1), (107, (a114 + 2), r113.2.2.1), (501, o, r113.2.2.2.1), (502, o, r113.2.2.2.2.1), (503, o, r113.2.2.2.2.2.1), (504, o, r113.2.2.2.2.2.2.1), (505, o, r113.2.2.2.2.2.2.2.1)])) fun Im119 =>
      lt ((ov J [(506, o, r113.2.2.2.2.2.2.2.2)])) fun Jm120 =>
      gdp (K (a114 + 2) = some (.inl 1)) <|
      gdp (0 ≤ 1 ∧ 0 ≤ 4) <|
      some ((.inl (a114 + 2)), K, Im119, Jm120, X, A, B, Q, n)
      ) fun v121 =>
    lt ((ov I [(106, (a114 + 2), r113.2.1), (107, (a114 + 2), r113.2.2.1), (501, o, r113.2.2.2.1), (502, o, r113.2.2.2.2.1), (503, o, r113.2.2.2.2.2.1), (504, o, r113.2.2.2.2.2.2.1), (505, o, r113.2.2.2.2.2.2.2.1)])) fun Im119 =>
    lt ((ov J [(506, o, r113.2.2.2.2.2.2.2.2)])) fun Jm120 =>
    (x112).bind fun a125 =>
    gdp (K a125 = some (.inl 3)) <|
    lt (i_up Im119 312 a125 v121) fun Im127 =>
    gdp (0 ≤ 1 ∧ 0 ≤ 4) <|
    some ((.inr ()), K, Im127, Jm120, X, A, B, Q, n)
  else
  if p1 = 6 then
    gdp (K o = some (.inl 5)) <|
    lt (X 508 o) fun x131 =>
    (X 507 o).bind fun a133 =>
    gdp (Sh K X o 5 rows5) <|
    gdp (Sh K X a133 0 rows0) <|
    gdp (K (a133 + 2) = some (.inl 1)) <|
    gdp (X 4 a133 = some (a133 + 2)) <|
    (f6_numberY (1 : Int32) (9 : Int32) (I 2 a133) (I 106 (a133 + 2)) (I 107 (a133 + 2)) (I 500 o) (I 501 o) (I 502 o) (I 503 o) (I 504 o) (I 505 o) (J 506 o) (A (a133 + 1))).bind fun r132 =>
    tr r132.1 (
      lt ((ov I [(106, (a133 + 2), r132.2.1), (107, (a133 + 2), r132.2.2.1), (501, o, r132.2.2.2.1), (502, o, r132.2.2.2.2.1), (503, o, r132.2.2.2.2.2.1), (504, o, r132.2.2.2.2.2.2.1), (505, o, r132.2.2.2.2.2.2.2.1)])) fun Im138 =>
      lt ((ov J [(506, o, r132.2.2.2.2.2.2.2.2)])) fun Jm139 =>
      gdp (K (a133 + 2) = some (.inl 1)) <|
      gdp (0 ≤ 1 ∧ 0 ≤ 4) <|
      some ((.inl (a133 + 2)), K, Im138, Jm139, X, A, B, Q, n)
      ) fun v140 =>
    lt ((ov I [(106, (a133 + 2), r132.2.1), (107, (a133 + 2), r132.2.2.1), (501, o, r132.2.2.2.1), (502, o, r132.2.2.2.2.1), (503, o, r132.2.2.2.2.2.1), (504, o, r132.2.2.2.2.2.2.1), (505, o, r132.2.2.2.2.2.2.2.1)])) fun Im138 =>
    lt ((ov J [(506, o, r132.2.2.2.2.2.2.2.2)])) fun Jm139 =>
    (x131).bind fun a144 =>
    gdp (K a144 = some (.inl 3)) <|
    lt (i_up Im138 313 a144 v140) fun Im146 =>
    gdp (0 ≤ 1 ∧ 0 ≤ 4) <|
    some ((.inr ()), K, Im146, Jm139, X, A, B, Q, n)
  else
  if p1 = 7 then
    gdp (K o = some (.inl 5)) <|
    lt (X 508 o) fun x150 =>
    lt (X 509 o) fun x151 =>
    (x151).bind fun a152 =>
    gdp (K a152 = some (.inl 0)) <|
    lt (X 6 a152) fun x154 =>
    (x154).bind fun a155 =>
    (X 507 o).bind fun a157 =>
    gdp (Sh K X o 5 rows5) <|
    gdp (Sh K X a157 0 rows0) <|
    gdp (K a155 = some (.inr (8, 4))) <|
    gdp (∀ j, j < 4 → Q a155 j = some (adS (10 + j))) <|
    (f6_findY 4 10 (I 502 o) (I 503 o) (I 505 o) (A (a157 + 1))).bind fun r156 =>
    (x150).bind fun a162 =>
    gdp (K a162 = some (.inl 3)) <|
    lt (i_up I 314 a162 r156) fun Im164 =>
    lt (Im164 314 a162) fun v165 =>
    if v165 = (-1 : Int32) then
      w7_line_j226 o K J X A B Q n Im164 (0 : Int32)
    else
      w7_line_j226 o K J X A B Q n Im164 (1 : Int32)
  else
  if p1 = 8 then
    (X 507 o).bind fun a185 =>
    (X 508 o).bind fun a186 =>
    gdp (Sh K X o 5 rows5) <|
    gdp (Sh K X a185 0 rows0) <|
    gdp (Sh K X a186 3 rows3) <|
    gdp (K (a185 + 2) = some (.inl 1)) <|
    gdp (X 509 o = some a185) <|
    gdp (X 4 a185 = some (a185 + 2)) <|
    gdp (nda [(a185 + 1), (a186 + 2)]) <|
    (f7_cells (I 2 a185) (I 106 (a185 + 2)) (I 107 (a185 + 2)) (I 304 a186) (I 305 a186) (I 500 o) (I 501 o) (I 502 o) (I 503 o) (I 504 o) (I 505 o) (J 506 o) (A (a185 + 1)) (A (a186 + 2))).bind fun r184 =>
    tr r184.1 (
      lt ((ov I [(106, (a185 + 2), r184.2.1), (107, (a185 + 2), r184.2.2.1), (304, a186, r184.2.2.2.1), (305, a186, r184.2.2.2.2.1), (501, o, r184.2.2.2.2.2.1), (502, o, r184.2.2.2.2.2.2.1), (503, o, r184.2.2.2.2.2.2.2.1), (504, o, r184.2.2.2.2.2.2.2.2.1), (505, o, r184.2.2.2.2.2.2.2.2.2.1)])) fun Im194 =>
      lt ((ov J [(506, o, r184.2.2.2.2.2.2.2.2.2.2.1)])) fun Jm195 =>
      lt ((ova A [((a185 + 1), (A (a185 + 1))), ((a186 + 2), r184.2.2.2.2.2.2.2.2.2.2.2)])) fun Am196 =>
      gdp (K (a185 + 2) = some (.inl 1)) <|
      gdp (0 ≤ 1 ∧ 0 ≤ 4) <|
      some ((.inl (a185 + 2)), K, Im194, Jm195, X, Am196, B, Q, n)
      ) fun v197 =>
    lt ((ov I [(106, (a185 + 2), r184.2.1), (107, (a185 + 2), r184.2.2.1), (304, a186, r184.2.2.2.1), (305, a186, r184.2.2.2.2.1), (501, o, r184.2.2.2.2.2.1), (502, o, r184.2.2.2.2.2.2.1), (503, o, r184.2.2.2.2.2.2.2.1), (504, o, r184.2.2.2.2.2.2.2.2.1), (505, o, r184.2.2.2.2.2.2.2.2.2.1)])) fun Im194 =>
    lt ((ov J [(506, o, r184.2.2.2.2.2.2.2.2.2.2.1)])) fun Jm195 =>
    lt ((ova A [((a185 + 1), (A (a185 + 1))), ((a186 + 2), r184.2.2.2.2.2.2.2.2.2.2.2)])) fun Am196 =>
    gdp (0 ≤ 1 ∧ 0 ≤ 4) <|
    some ((.inr ()), K, Im194, Jm195, X, Am196, B, Q, n)
  else
  (X 507 o).bind fun a203 =>
  (X 508 o).bind fun a204 =>
  gdp (Sh K X o 5 rows5) <|
  gdp (Sh K X a203 0 rows0) <|
  gdp (Sh K X a204 3 rows3) <|
  gdp (K (a203 + 2) = some (.inl 1)) <|
  gdp (X 509 o = some a203) <|
  gdp (X 4 a203 = some (a203 + 2)) <|
  gdp (nda [(a203 + 1), (a204 + 2), (a204 + 3)]) <|
  (f7_burn (I 2 a203) (I 106 (a203 + 2)) (I 107 (a203 + 2)) (I 304 a204) (I 305 a204) (I 500 o) (I 501 o) (I 502 o) (I 503 o) (I 504 o) (I 505 o) (J 506 o) (A (a203 + 1)) (A (a204 + 2)) (A (a204 + 3))).bind fun r202 =>
  tr r202.1 (
    lt ((ov I [(106, (a203 + 2), r202.2.1), (107, (a203 + 2), r202.2.2.1), (501, o, r202.2.2.2.1), (502, o, r202.2.2.2.2.1), (503, o, r202.2.2.2.2.2.1), (504, o, r202.2.2.2.2.2.2.1), (505, o, r202.2.2.2.2.2.2.2.1)])) fun Im212 =>
    lt ((ov J [(506, o, r202.2.2.2.2.2.2.2.2.1)])) fun Jm213 =>
    lt ((ova A [((a203 + 1), (A (a203 + 1))), ((a204 + 2), (A (a204 + 2))), ((a204 + 3), r202.2.2.2.2.2.2.2.2.2)])) fun Am214 =>
    gdp (K (a203 + 2) = some (.inl 1)) <|
    gdp (0 ≤ 1 ∧ 0 ≤ 4) <|
    some ((.inl (a203 + 2)), K, Im212, Jm213, X, Am214, B, Q, n)
    ) fun v215 =>
  lt ((ov I [(106, (a203 + 2), r202.2.1), (107, (a203 + 2), r202.2.2.1), (501, o, r202.2.2.2.1), (502, o, r202.2.2.2.2.1), (503, o, r202.2.2.2.2.2.1), (504, o, r202.2.2.2.2.2.2.1), (505, o, r202.2.2.2.2.2.2.2.1)])) fun Im212 =>
  lt ((ov J [(506, o, r202.2.2.2.2.2.2.2.2.1)])) fun Jm213 =>
  lt ((ova A [((a203 + 1), (A (a203 + 1))), ((a204 + 2), (A (a204 + 2))), ((a204 + 3), r202.2.2.2.2.2.2.2.2.2)])) fun Am214 =>
  gdp (0 ≤ 1 ∧ 0 ≤ 4) <|
  some ((.inr ()), K, Im212, Jm213, X, Am214, B, Q, n)
set_option maxHeartbeats 4000000 in
theorem m7_line_w (l : Launch) (G : gG) (K : gK) (I : gI) (J : gJ) (X : gX) (A : gI) (B : gJ) (Q : gX) (n : Nat) (o : Nat) (p1 : Int32) (out : (Nat ⊕ Unit) × gK × gI × gJ × gX × gI × gJ × gX × Nat) (hf : w7_line G.2.2 (aK G) o p1 K I J X A B Q n = some out) : GMetX l yX7_line cX7_line 2 none (8) (173) G [.ref o, .int p1] K I J X A B Q (xsu "PailRow$Fault" out.1) out.2.1 out.2.2.1 out.2.2.2.1 out.2.2.2.2.1 out.2.2.2.2.2.1 out.2.2.2.2.2.2.1 out.2.2.2.2.2.2.2.1 1 4 := by
  refine GMetX.of (y := yX7_line) rfl (Nat.le_of_ble_eq_true rfl) (la := [(0, .ref o), (1, .int p1)]) rfl ?_
  intro p e s m below meth c ls hx hb hr hml hlocks hts hown hname ht hG hR hW hl
  have hown : s.vm.findClass RX7 = some m.cls := hown
  have hS : va_S (gA G) s.heap s.heap [] := va_S.rf
  have hz : (∃ a, K a ≠ none) → G.2.2 ≤ s.heap.size := fun ⟨a, h⟩ => Nat.le_of_lt (Nat.lt_of_le_of_lt (hR.ge h) (hR.lt h))
  have hend : ∀ (v : Unit), out.1 = .inr v → ∀ (pc : Nat) (H : Heap) (locs : List Loc) (ls : Array Slot), decode cX7_line pc = .ok (.return_, 1) → RS G out.2.1 out.2.2.1 out.2.2.2.1 out.2.2.2.2.1 out.2.2.2.2.2.1 out.2.2.2.2.2.2.1 out.2.2.2.2.2.2.2.1 H → va_S (gA G) s.heap H locs → W p l e ({ frames := 8, cells := 1, slots := 4, locals := 173 } : Room) s m ([.ref o, .int p1] : List Value).toArray below meth c H locs 1 4 (vx_MQ below (xQ G (xsu "PailRow$Fault" out.1) out.2.1 out.2.2.1 out.2.2.2.1 out.2.2.2.2.1 out.2.2.2.2.2.1 out.2.2.2.2.2.2.1 out.2.2.2.2.2.2.2.1) (xX G (xsu "PailRow$Fault" out.1) out.2.1 out.2.2.1 out.2.2.2.1 out.2.2.2.2.1 out.2.2.2.2.2.1 out.2.2.2.2.2.2.1 out.2.2.2.2.2.2.2.1) ([.ref o, .int p1] : List Value).toArray s 1 4 (gA G)) (F0 m pc ls []) := fun v hv pc H locs ls hd hR hS => x_vret hx hb hr hlocks hG hR hS (by rw [hv]; rfl) hd
  have hthr : ∀ (b : Nat), out.1 = .inl b → ∀ (pc : Nat) (H : Heap) (locs : List Loc) (ls : Array Slot) (rest : List Value), out.2.1 b = some (.inl 1) → RS G out.2.1 out.2.2.1 out.2.2.2.1 out.2.2.2.2.1 out.2.2.2.2.2.1 out.2.2.2.2.2.2.1 out.2.2.2.2.2.2.2.1 H → va_S (gA G) s.heap H locs → vx_W p l e ({ frames := 8, cells := 1, slots := 4, locals := 173 } : Room) s m ([.ref o, .int p1] : List Value).toArray below meth c H locs 1 4 (vx_MQ below (xQ G (xsu "PailRow$Fault" out.1) out.2.1 out.2.2.1 out.2.2.2.1 out.2.2.2.2.1 out.2.2.2.2.2.1 out.2.2.2.2.2.2.1 out.2.2.2.2.2.2.2.1) (xX G (xsu "PailRow$Fault" out.1) out.2.1 out.2.2.1 out.2.2.2.1 out.2.2.2.2.1 out.2.2.2.2.2.1 out.2.2.2.2.2.2.1 out.2.2.2.2.2.2.2.1) ([.ref o, .int p1] : List Value).toArray s 1 4 (gA G)) (F0 m pc ls rest) b := fun b hn pc H locs ls rest hk hR hS => x_out (ci := 1) ht hlocks hG hR hS hk rfl (by rw [hn]; rfl)
  generalize vx_MQ below (xQ G (xsu "PailRow$Fault" out.1) out.2.1 out.2.2.1 out.2.2.2.1 out.2.2.2.2.1 out.2.2.2.2.2.1 out.2.2.2.2.2.2.1 out.2.2.2.2.2.2.2.1) (xX G (xsu "PailRow$Fault" out.1) out.2.1 out.2.2.1 out.2.2.2.1 out.2.2.2.2.1 out.2.2.2.2.2.1 out.2.2.2.2.2.2.1 out.2.2.2.2.2.2.2.1) ([.ref o, .int p1] : List Value).toArray s 1 4 (gA G) = Z at hend hthr ⊢
  generalize ([.ref o, .int p1] : List Value).toArray = args at hts hend hthr ⊢
  unfold w7_line at hf
  obtain ⟨k0, hf⟩ := gdp_some hf
  refine lv_iload_n hx hb dX7_line_0 rfl (lv_at hl 1 rfl) ?_
  by_cases c1 : p1 = 0
  · have hf := ite_t c1 hf
    refine lv_tableIn (tgt := 52) hx hb dX7_line_1 (by rw [c1]; decide) (by rw [c1]; decide) (off := 51) (by rw [c1]; rfl) (by decide) ?_
    refine lv_aload_n hx hb dX7_line_52 rfl (lv_at hl 0 rfl) ?_
    obtain ⟨k2, hf⟩ := gdp_some hf
    obtain ⟨c4, hf⟩ := gdp_some hf
    obtain ⟨r3, hr3, hf⟩ := bind_s hf
    refine x_gosu (vx_runV (As := []) (rest := []) (b := o) ⟨hx, hb, hml, hown, hts⟩ (m7_man_w l G K I J X A B Q n o r3 hr3) ⟨callB_of 0 hts (lw_meth q956) rfl rfl rfl (hts _ q111) (hts _ q953) (by decide +kernel) ⟨Nat.le_of_ble_eq_true rfl, Nat.le_of_ble_eq_true rfl⟩, hts _ q955, hts _ qs4⟩ (x_preV hG hR hW hS k2 rfl) rfl rfl hl.1 rfl (lv_room (Nat.le_of_ble_eq_true rfl)) dX7_line_53 ⟨c4.1, c4.2⟩) hS (fun b6 H locs hnv5 hR hS => ?_) (fun v5 H locs hvv5 hR hS => ?_)
    · have hf := trs_l hnv5 hf
      obtain ⟨k7, hf⟩ := gdp_some hf
      obtain ⟨c8, hf⟩ := gdp_some hf
      refine vx_widen c8.1 c8.2 ?_
      obtain rfl := some_i hf
      exact hthr _ rfl _ _ _ _ _ k7 hR hS
    have hf := trs_r hvv5 hf
    refine lv_goto (tgt := 248) hx hb dX7_line_56 (by decide) ?_
    obtain ⟨c9, hf⟩ := gdp_some hf
    refine W.widen c9.1 c9.2 ?_
    obtain rfl := some_i hf
    exact hend _ rfl _ _ _ _ dX7_line_248 hR hS
  have hf := ite_f c1 hf
  by_cases c10 : p1 = 1
  · have hf := ite_t c10 hf
    refine lv_tableIn (tgt := 59) hx hb dX7_line_1 (by rw [c10]; decide) (by rw [c10]; decide) (off := 58) (by rw [c10]; rfl) (by decide) ?_
    refine lv_aload_n hx hb dX7_line_59 rfl (lv_at hl 0 rfl) ?_
    obtain ⟨k11, hf⟩ := gdp_some hf
    obtain ⟨x12, ex12, hf⟩ := lt_some hf
    refine g_getx hx hb hts hown hG hR gFx_X7_15_5 k11 dX7_line_60 ?_
    rw [← ex12]
    refine lv_aload_n hx hb dX7_line_63 rfl (lv_at hl 0 rfl) ?_
    refine lv_bipush (v := 10) hx hb dX7_line_64 lb_10 ?_
    refine lv_bipush (v := 99) hx hb dX7_line_66 lb_99 ?_
    obtain ⟨a14, ha14, hf⟩ := bind_s hf
    obtain ⟨g15, hf⟩ := gdp_some hf
    obtain ⟨g16, hf⟩ := gdp_some hf
    obtain ⟨g17, hf⟩ := gdp_some hf
    obtain ⟨g18, hf⟩ := gdp_some hf
    obtain ⟨r13, hr13, hf⟩ := bind_s hf
    refine x0_goi (vx_runU (As := [.int (10 : Int32), .int (99 : Int32)]) (rest := [va_rf x12]) (b := o) ⟨hx, hb, hml, hown, hts⟩ (m6_numberY l G K I J X A B Q o a14 g15 g16 g17 ha14 g18 (10 : Int32) (99 : Int32) (I 2 a14) (I 106 (a14 + 2)) (I 107 (a14 + 2)) (I 500 o) (I 501 o) (I 502 o) (I 503 o) (I 504 o) (I 505 o) (J 506 o) (A (a14 + 1)) rfl rfl rfl rfl rfl rfl rfl rfl rfl rfl rfl r13 hr13) (va_cwU (x := ⟨"PailRow$YardReader", "number", "(II)I"⟩) (owner := "PailRow$Reader") 2 hts gu_X7_60_5 rfl rfl rfl rfl ⟨by decide +kernel, by decide +kernel, by decide +kernel⟩ ⟨Nat.le_of_ble_eq_true rfl, Nat.le_of_ble_eq_true rfl⟩) (x_preV hG hR hW hS g15.1 rfl) rfl rfl hl.1 rfl (lv_room (by simp [va_rf_c, cat_r, cat_i, cat_l, cat_n])) dX7_line_68 ⟨Nat.zero_le _, Nat.zero_le _⟩) hS (fun H locs hnv21 hR hS => ?_) (fun v21 H locs hvv21 hR hS => ?_)
    · have hf := tr_n hnv21 hf
      obtain ⟨Im19, eIm19, hf⟩ := lt_some hf
      obtain ⟨Jm20, eJm20, hf⟩ := lt_some hf
      rw [← eIm19, ← eJm20] at hR
      obtain ⟨k23, hf⟩ := gdp_some hf
      obtain ⟨c24, hf⟩ := gdp_some hf
      refine vx_widen c24.1 c24.2 ?_
      obtain rfl := some_i hf
      exact hthr _ rfl _ _ _ _ _ k23 hR hS
    have hf := tr_s hvv21 hf
    obtain ⟨Im19, eIm19, hf⟩ := lt_some hf
    obtain ⟨Jm20, eJm20, hf⟩ := lt_some hf
    rw [← eIm19, ← eJm20] at hR
    obtain ⟨a25, ha25, hf⟩ := bind_s hf
    try rw [ha25]
    obtain ⟨k26, hf⟩ := gdp_some hf
    refine g_puti (v := v21) hx hb hts hown hG hR hS gPi_X7_64_3 k26 dX7_line_71 (fun H locs hR hS => ?_)
    obtain ⟨Im27, eIm27, hf⟩ := lt_some hf
    rw [← eIm27] at hR
    refine lv_goto (tgt := 248) hx hb dX7_line_74 (by decide) ?_
    obtain ⟨c28, hf⟩ := gdp_some hf
    refine W.widen c28.1 c28.2 ?_
    obtain rfl := some_i hf
    exact hend _ rfl _ _ _ _ dX7_line_248 hR hS
  have hf := ite_f c10 hf
  by_cases c29 : p1 = 2
  · have hf := ite_t c29 hf
    refine lv_tableIn (tgt := 77) hx hb dX7_line_1 (by rw [c29]; decide) (by rw [c29]; decide) (off := 76) (by rw [c29]; rfl) (by decide) ?_
    refine lv_aload_n hx hb dX7_line_77 rfl (lv_at hl 0 rfl) ?_
    obtain ⟨k30, hf⟩ := gdp_some hf
    obtain ⟨x31, ex31, hf⟩ := lt_some hf
    refine g_getx hx hb hts hown hG hR gFx_X7_15_5 k30 dX7_line_78 ?_
    rw [← ex31]
    refine lv_aload_n hx hb dX7_line_81 rfl (lv_at hl 0 rfl) ?_
    refine lv_iconst (v := 1) hx hb dX7_line_82 li_1 ?_
    refine lv_bipush (v := 30) hx hb dX7_line_83 lb_30 ?_
    obtain ⟨a33, ha33, hf⟩ := bind_s hf
    obtain ⟨g34, hf⟩ := gdp_some hf
    obtain ⟨g35, hf⟩ := gdp_some hf
    obtain ⟨g36, hf⟩ := gdp_some hf
    obtain ⟨g37, hf⟩ := gdp_some hf
    obtain ⟨r32, hr32, hf⟩ := bind_s hf
    refine x0_goi (vx_runU (As := [.int (1 : Int32), .int (30 : Int32)]) (rest := [va_rf x31]) (b := o) ⟨hx, hb, hml, hown, hts⟩ (m6_numberY l G K I J X A B Q o a33 g34 g35 g36 ha33 g37 (1 : Int32) (30 : Int32) (I 2 a33) (I 106 (a33 + 2)) (I 107 (a33 + 2)) (I 500 o) (I 501 o) (I 502 o) (I 503 o) (I 504 o) (I 505 o) (J 506 o) (A (a33 + 1)) rfl rfl rfl rfl rfl rfl rfl rfl rfl rfl rfl r32 hr32) (va_cwU (x := ⟨"PailRow$YardReader", "number", "(II)I"⟩) (owner := "PailRow$Reader") 2 hts gu_X7_60_5 rfl rfl rfl rfl ⟨by decide +kernel, by decide +kernel, by decide +kernel⟩ ⟨Nat.le_of_ble_eq_true rfl, Nat.le_of_ble_eq_true rfl⟩) (x_preV hG hR hW hS g34.1 rfl) rfl rfl hl.1 rfl (lv_room (by simp [va_rf_c, cat_r, cat_i, cat_l, cat_n])) dX7_line_85 ⟨Nat.zero_le _, Nat.zero_le _⟩) hS (fun H locs hnv40 hR hS => ?_) (fun v40 H locs hvv40 hR hS => ?_)
    · have hf := tr_n hnv40 hf
      obtain ⟨Im38, eIm38, hf⟩ := lt_some hf
      obtain ⟨Jm39, eJm39, hf⟩ := lt_some hf
      rw [← eIm38, ← eJm39] at hR
      obtain ⟨k42, hf⟩ := gdp_some hf
      obtain ⟨c43, hf⟩ := gdp_some hf
      refine vx_widen c43.1 c43.2 ?_
      obtain rfl := some_i hf
      exact hthr _ rfl _ _ _ _ _ k42 hR hS
    have hf := tr_s hvv40 hf
    obtain ⟨Im38, eIm38, hf⟩ := lt_some hf
    obtain ⟨Jm39, eJm39, hf⟩ := lt_some hf
    rw [← eIm38, ← eJm39] at hR
    obtain ⟨a44, ha44, hf⟩ := bind_s hf
    try rw [ha44]
    obtain ⟨k45, hf⟩ := gdp_some hf
    refine g_puti (v := v40) hx hb hts hown hG hR hS gPi_X7_67_3 k45 dX7_line_88 (fun H locs hR hS => ?_)
    obtain ⟨Im46, eIm46, hf⟩ := lt_some hf
    rw [← eIm46] at hR
    refine lv_aload_n hx hb dX7_line_91 rfl (lv_at hl 0 rfl) ?_
    refine g_getx hx hb hts hown hG hR gFx_X7_15_5 k30 dX7_line_92 ?_
    rw [← ex31]
    refine lv_aload_n hx hb dX7_line_95 rfl (lv_at hl 0 rfl) ?_
    refine lv_iconst (v := 1) hx hb dX7_line_96 li_1 ?_
    refine lv_bipush (v := 20) hx hb dX7_line_97 lb_20 ?_
    obtain ⟨a48, ha48, hf⟩ := bind_s hf
    obtain ⟨g49, hf⟩ := gdp_some hf
    obtain ⟨g50, hf⟩ := gdp_some hf
    obtain ⟨g51, hf⟩ := gdp_some hf
    obtain ⟨r47, hr47, hf⟩ := bind_s hf
    refine x0_goi (vx_runU (As := [.int (1 : Int32), .int (20 : Int32)]) (rest := [va_rf x31]) (b := o) ⟨hx, hb, hml, hown, hts⟩ (m6_numberY l G K Im46 Jm39 X A B Q o a48 g34 g49 g50 ha48 g51 (1 : Int32) (20 : Int32) (Im46 2 a48) (Im46 106 (a48 + 2)) (Im46 107 (a48 + 2)) (Im46 500 o) (Im46 501 o) (Im46 502 o) (Im46 503 o) (Im46 504 o) (Im46 505 o) (Jm39 506 o) (A (a48 + 1)) rfl rfl rfl rfl rfl rfl rfl rfl rfl rfl rfl r47 hr47) (va_cwU (x := ⟨"PailRow$YardReader", "number", "(II)I"⟩) (owner := "PailRow$Reader") 2 hts gu_X7_60_5 rfl rfl rfl rfl ⟨by decide +kernel, by decide +kernel, by decide +kernel⟩ ⟨Nat.le_of_ble_eq_true rfl, Nat.le_of_ble_eq_true rfl⟩) (x_preV hG hR hW hS g34.1 rfl) rfl rfl hl.1 rfl (lv_room (by simp [va_rf_c, cat_r, cat_i, cat_l, cat_n])) dX7_line_99 ⟨Nat.zero_le _, Nat.zero_le _⟩) hS (fun H locs hnv54 hR hS => ?_) (fun v54 H locs hvv54 hR hS => ?_)
    · have hf := tr_n hnv54 hf
      obtain ⟨Im52, eIm52, hf⟩ := lt_some hf
      obtain ⟨Jm53, eJm53, hf⟩ := lt_some hf
      rw [← eIm52, ← eJm53] at hR
      obtain ⟨k56, hf⟩ := gdp_some hf
      obtain ⟨c57, hf⟩ := gdp_some hf
      refine vx_widen c57.1 c57.2 ?_
      obtain rfl := some_i hf
      exact hthr _ rfl _ _ _ _ _ k56 hR hS
    have hf := tr_s hvv54 hf
    obtain ⟨Im52, eIm52, hf⟩ := lt_some hf
    obtain ⟨Jm53, eJm53, hf⟩ := lt_some hf
    rw [← eIm52, ← eJm53] at hR
    try rw [ha44]
    refine g_puti (v := v54) hx hb hts hown hG hR hS gPi_X7_70_3 k45 dX7_line_102 (fun H locs hR hS => ?_)
    obtain ⟨Im58, eIm58, hf⟩ := lt_some hf
    rw [← eIm58] at hR
    refine lv_goto (tgt := 248) hx hb dX7_line_105 (by decide) ?_
    obtain ⟨c59, hf⟩ := gdp_some hf
    refine W.widen c59.1 c59.2 ?_
    obtain rfl := some_i hf
    exact hend _ rfl _ _ _ _ dX7_line_248 hR hS
  have hf := ite_f c29 hf
  by_cases c60 : p1 = 3
  · have hf := ite_t c60 hf
    refine lv_tableIn (tgt := 108) hx hb dX7_line_1 (by rw [c60]; decide) (by rw [c60]; decide) (off := 107) (by rw [c60]; rfl) (by decide) ?_
    refine lv_aload_n hx hb dX7_line_108 rfl (lv_at hl 0 rfl) ?_
    obtain ⟨k61, hf⟩ := gdp_some hf
    obtain ⟨x62, ex62, hf⟩ := lt_some hf
    refine g_getx hx hb hts hown hG hR gFx_X7_15_5 k61 dX7_line_109 ?_
    rw [← ex62]
    refine lv_aload_n hx hb dX7_line_112 rfl (lv_at hl 0 rfl) ?_
    refine lv_iconst (v := 1) hx hb dX7_line_113 li_1 ?_
    refine lv_bipush (v := 30) hx hb dX7_line_114 lb_30 ?_
    obtain ⟨a64, ha64, hf⟩ := bind_s hf
    obtain ⟨g65, hf⟩ := gdp_some hf
    obtain ⟨g66, hf⟩ := gdp_some hf
    obtain ⟨g67, hf⟩ := gdp_some hf
    obtain ⟨g68, hf⟩ := gdp_some hf
    obtain ⟨r63, hr63, hf⟩ := bind_s hf
    refine x0_goi (vx_runU (As := [.int (1 : Int32), .int (30 : Int32)]) (rest := [va_rf x62]) (b := o) ⟨hx, hb, hml, hown, hts⟩ (m6_numberY l G K I J X A B Q o a64 g65 g66 g67 ha64 g68 (1 : Int32) (30 : Int32) (I 2 a64) (I 106 (a64 + 2)) (I 107 (a64 + 2)) (I 500 o) (I 501 o) (I 502 o) (I 503 o) (I 504 o) (I 505 o) (J 506 o) (A (a64 + 1)) rfl rfl rfl rfl rfl rfl rfl rfl rfl rfl rfl r63 hr63) (va_cwU (x := ⟨"PailRow$YardReader", "number", "(II)I"⟩) (owner := "PailRow$Reader") 2 hts gu_X7_60_5 rfl rfl rfl rfl ⟨by decide +kernel, by decide +kernel, by decide +kernel⟩ ⟨Nat.le_of_ble_eq_true rfl, Nat.le_of_ble_eq_true rfl⟩) (x_preV hG hR hW hS g65.1 rfl) rfl rfl hl.1 rfl (lv_room (by simp [va_rf_c, cat_r, cat_i, cat_l, cat_n])) dX7_line_116 ⟨Nat.zero_le _, Nat.zero_le _⟩) hS (fun H locs hnv71 hR hS => ?_) (fun v71 H locs hvv71 hR hS => ?_)
    · have hf := tr_n hnv71 hf
      obtain ⟨Im69, eIm69, hf⟩ := lt_some hf
      obtain ⟨Jm70, eJm70, hf⟩ := lt_some hf
      rw [← eIm69, ← eJm70] at hR
      obtain ⟨k73, hf⟩ := gdp_some hf
      obtain ⟨c74, hf⟩ := gdp_some hf
      refine vx_widen c74.1 c74.2 ?_
      obtain rfl := some_i hf
      exact hthr _ rfl _ _ _ _ _ k73 hR hS
    have hf := tr_s hvv71 hf
    obtain ⟨Im69, eIm69, hf⟩ := lt_some hf
    obtain ⟨Jm70, eJm70, hf⟩ := lt_some hf
    rw [← eIm69, ← eJm70] at hR
    obtain ⟨a75, ha75, hf⟩ := bind_s hf
    try rw [ha75]
    obtain ⟨k76, hf⟩ := gdp_some hf
    refine g_puti (v := v71) hx hb hts hown hG hR hS gPi_X7_73_3 k76 dX7_line_119 (fun H locs hR hS => ?_)
    obtain ⟨Im77, eIm77, hf⟩ := lt_some hf
    rw [← eIm77] at hR
    refine lv_aload_n hx hb dX7_line_122 rfl (lv_at hl 0 rfl) ?_
    refine g_getx hx hb hts hown hG hR gFx_X7_15_5 k61 dX7_line_123 ?_
    rw [← ex62]
    refine lv_aload_n hx hb dX7_line_126 rfl (lv_at hl 0 rfl) ?_
    refine lv_iconst (v := 0) hx hb dX7_line_127 li_0 ?_
    refine lv_sipush (v := 9999) hx hb dX7_line_128 ls_9999 ?_
    obtain ⟨a79, ha79, hf⟩ := bind_s hf
    obtain ⟨g80, hf⟩ := gdp_some hf
    obtain ⟨g81, hf⟩ := gdp_some hf
    obtain ⟨g82, hf⟩ := gdp_some hf
    obtain ⟨r78, hr78, hf⟩ := bind_s hf
    refine x0_goi (vx_runU (As := [.int (0 : Int32), .int (9999 : Int32)]) (rest := [va_rf x62]) (b := o) ⟨hx, hb, hml, hown, hts⟩ (m6_numberY l G K Im77 Jm70 X A B Q o a79 g65 g80 g81 ha79 g82 (0 : Int32) (9999 : Int32) (Im77 2 a79) (Im77 106 (a79 + 2)) (Im77 107 (a79 + 2)) (Im77 500 o) (Im77 501 o) (Im77 502 o) (Im77 503 o) (Im77 504 o) (Im77 505 o) (Jm70 506 o) (A (a79 + 1)) rfl rfl rfl rfl rfl rfl rfl rfl rfl rfl rfl r78 hr78) (va_cwU (x := ⟨"PailRow$YardReader", "number", "(II)I"⟩) (owner := "PailRow$Reader") 2 hts gu_X7_60_5 rfl rfl rfl rfl ⟨by decide +kernel, by decide +kernel, by decide +kernel⟩ ⟨Nat.le_of_ble_eq_true rfl, Nat.le_of_ble_eq_true rfl⟩) (x_preV hG hR hW hS g65.1 rfl) rfl rfl hl.1 rfl (lv_room (by simp [va_rf_c, cat_r, cat_i, cat_l, cat_n])) dX7_line_131 ⟨Nat.zero_le _, Nat.zero_le _⟩) hS (fun H locs hnv85 hR hS => ?_) (fun v85 H locs hvv85 hR hS => ?_)
    · have hf := tr_n hnv85 hf
      obtain ⟨Im83, eIm83, hf⟩ := lt_some hf
      obtain ⟨Jm84, eJm84, hf⟩ := lt_some hf
      rw [← eIm83, ← eJm84] at hR
      obtain ⟨k87, hf⟩ := gdp_some hf
      obtain ⟨c88, hf⟩ := gdp_some hf
      refine vx_widen c88.1 c88.2 ?_
      obtain rfl := some_i hf
      exact hthr _ rfl _ _ _ _ _ k87 hR hS
    have hf := tr_s hvv85 hf
    obtain ⟨Im83, eIm83, hf⟩ := lt_some hf
    obtain ⟨Jm84, eJm84, hf⟩ := lt_some hf
    rw [← eIm83, ← eJm84] at hR
    try rw [ha75]
    refine g_puti (v := v85) hx hb hts hown hG hR hS gPi_X7_76_3 k76 dX7_line_134 (fun H locs hR hS => ?_)
    obtain ⟨Im89, eIm89, hf⟩ := lt_some hf
    rw [← eIm89] at hR
    refine lv_goto (tgt := 248) hx hb dX7_line_137 (by decide) ?_
    obtain ⟨c90, hf⟩ := gdp_some hf
    refine W.widen c90.1 c90.2 ?_
    obtain rfl := some_i hf
    exact hend _ rfl _ _ _ _ dX7_line_248 hR hS
  have hf := ite_f c60 hf
  by_cases c91 : p1 = 4
  · have hf := ite_t c91 hf
    refine lv_tableIn (tgt := 140) hx hb dX7_line_1 (by rw [c91]; decide) (by rw [c91]; decide) (off := 139) (by rw [c91]; rfl) (by decide) ?_
    refine lv_aload_n hx hb dX7_line_140 rfl (lv_at hl 0 rfl) ?_
    obtain ⟨k92, hf⟩ := gdp_some hf
    obtain ⟨x93, ex93, hf⟩ := lt_some hf
    refine g_getx hx hb hts hown hG hR gFx_X7_15_5 k92 dX7_line_141 ?_
    rw [← ex93]
    refine lv_aload_n hx hb dX7_line_144 rfl (lv_at hl 0 rfl) ?_
    refine lv_iconst (v := 0) hx hb dX7_line_145 li_0 ?_
    refine lv_bipush (v := 99) hx hb dX7_line_146 lb_99 ?_
    obtain ⟨a95, ha95, hf⟩ := bind_s hf
    obtain ⟨g96, hf⟩ := gdp_some hf
    obtain ⟨g97, hf⟩ := gdp_some hf
    obtain ⟨g98, hf⟩ := gdp_some hf
    obtain ⟨g99, hf⟩ := gdp_some hf
    obtain ⟨r94, hr94, hf⟩ := bind_s hf
    refine x0_goi (vx_runU (As := [.int (0 : Int32), .int (99 : Int32)]) (rest := [va_rf x93]) (b := o) ⟨hx, hb, hml, hown, hts⟩ (m6_numberY l G K I J X A B Q o a95 g96 g97 g98 ha95 g99 (0 : Int32) (99 : Int32) (I 2 a95) (I 106 (a95 + 2)) (I 107 (a95 + 2)) (I 500 o) (I 501 o) (I 502 o) (I 503 o) (I 504 o) (I 505 o) (J 506 o) (A (a95 + 1)) rfl rfl rfl rfl rfl rfl rfl rfl rfl rfl rfl r94 hr94) (va_cwU (x := ⟨"PailRow$YardReader", "number", "(II)I"⟩) (owner := "PailRow$Reader") 2 hts gu_X7_60_5 rfl rfl rfl rfl ⟨by decide +kernel, by decide +kernel, by decide +kernel⟩ ⟨Nat.le_of_ble_eq_true rfl, Nat.le_of_ble_eq_true rfl⟩) (x_preV hG hR hW hS g96.1 rfl) rfl rfl hl.1 rfl (lv_room (by simp [va_rf_c, cat_r, cat_i, cat_l, cat_n])) dX7_line_148 ⟨Nat.zero_le _, Nat.zero_le _⟩) hS (fun H locs hnv102 hR hS => ?_) (fun v102 H locs hvv102 hR hS => ?_)
    · have hf := tr_n hnv102 hf
      obtain ⟨Im100, eIm100, hf⟩ := lt_some hf
      obtain ⟨Jm101, eJm101, hf⟩ := lt_some hf
      rw [← eIm100, ← eJm101] at hR
      obtain ⟨k104, hf⟩ := gdp_some hf
      obtain ⟨c105, hf⟩ := gdp_some hf
      refine vx_widen c105.1 c105.2 ?_
      obtain rfl := some_i hf
      exact hthr _ rfl _ _ _ _ _ k104 hR hS
    have hf := tr_s hvv102 hf
    obtain ⟨Im100, eIm100, hf⟩ := lt_some hf
    obtain ⟨Jm101, eJm101, hf⟩ := lt_some hf
    rw [← eIm100, ← eJm101] at hR
    obtain ⟨a106, ha106, hf⟩ := bind_s hf
    try rw [ha106]
    obtain ⟨k107, hf⟩ := gdp_some hf
    refine g_puti (v := v102) hx hb hts hown hG hR hS gPi_X7_79_3 k107 dX7_line_151 (fun H locs hR hS => ?_)
    obtain ⟨Im108, eIm108, hf⟩ := lt_some hf
    rw [← eIm108] at hR
    refine lv_goto (tgt := 248) hx hb dX7_line_154 (by decide) ?_
    obtain ⟨c109, hf⟩ := gdp_some hf
    refine W.widen c109.1 c109.2 ?_
    obtain rfl := some_i hf
    exact hend _ rfl _ _ _ _ dX7_line_248 hR hS
  have hf := ite_f c91 hf
  by_cases c110 : p1 = 5
  · have hf := ite_t c110 hf
    refine lv_tableIn (tgt := 157) hx hb dX7_line_1 (by rw [c110]; decide) (by rw [c110]; decide) (off := 156) (by rw [c110]; rfl) (by decide) ?_
    refine lv_aload_n hx hb dX7_line_157 rfl (lv_at hl 0 rfl) ?_
    obtain ⟨k111, hf⟩ := gdp_some hf
    obtain ⟨x112, ex112, hf⟩ := lt_some hf
    refine g_getx hx hb hts hown hG hR gFx_X7_15_5 k111 dX7_line_158 ?_
    rw [← ex112]
    refine lv_aload_n hx hb dX7_line_161 rfl (lv_at hl 0 rfl) ?_
    refine lv_iconst (v := 1) hx hb dX7_line_162 li_1 ?_
    refine lv_bipush (v := 99) hx hb dX7_line_163 lb_99 ?_
    obtain ⟨a114, ha114, hf⟩ := bind_s hf
    obtain ⟨g115, hf⟩ := gdp_some hf
    obtain ⟨g116, hf⟩ := gdp_some hf
    obtain ⟨g117, hf⟩ := gdp_some hf
    obtain ⟨g118, hf⟩ := gdp_some hf
    obtain ⟨r113, hr113, hf⟩ := bind_s hf
    refine x0_goi (vx_runU (As := [.int (1 : Int32), .int (99 : Int32)]) (rest := [va_rf x112]) (b := o) ⟨hx, hb, hml, hown, hts⟩ (m6_numberY l G K I J X A B Q o a114 g115 g116 g117 ha114 g118 (1 : Int32) (99 : Int32) (I 2 a114) (I 106 (a114 + 2)) (I 107 (a114 + 2)) (I 500 o) (I 501 o) (I 502 o) (I 503 o) (I 504 o) (I 505 o) (J 506 o) (A (a114 + 1)) rfl rfl rfl rfl rfl rfl rfl rfl rfl rfl rfl r113 hr113) (va_cwU (x := ⟨"PailRow$YardReader", "number", "(II)I"⟩) (owner := "PailRow$Reader") 2 hts gu_X7_60_5 rfl rfl rfl rfl ⟨by decide +kernel, by decide +kernel, by decide +kernel⟩ ⟨Nat.le_of_ble_eq_true rfl, Nat.le_of_ble_eq_true rfl⟩) (x_preV hG hR hW hS g115.1 rfl) rfl rfl hl.1 rfl (lv_room (by simp [va_rf_c, cat_r, cat_i, cat_l, cat_n])) dX7_line_165 ⟨Nat.zero_le _, Nat.zero_le _⟩) hS (fun H locs hnv121 hR hS => ?_) (fun v121 H locs hvv121 hR hS => ?_)
    · have hf := tr_n hnv121 hf
      obtain ⟨Im119, eIm119, hf⟩ := lt_some hf
      obtain ⟨Jm120, eJm120, hf⟩ := lt_some hf
      rw [← eIm119, ← eJm120] at hR
      obtain ⟨k123, hf⟩ := gdp_some hf
      obtain ⟨c124, hf⟩ := gdp_some hf
      refine vx_widen c124.1 c124.2 ?_
      obtain rfl := some_i hf
      exact hthr _ rfl _ _ _ _ _ k123 hR hS
    have hf := tr_s hvv121 hf
    obtain ⟨Im119, eIm119, hf⟩ := lt_some hf
    obtain ⟨Jm120, eJm120, hf⟩ := lt_some hf
    rw [← eIm119, ← eJm120] at hR
    obtain ⟨a125, ha125, hf⟩ := bind_s hf
    try rw [ha125]
    obtain ⟨k126, hf⟩ := gdp_some hf
    refine g_puti (v := v121) hx hb hts hown hG hR hS gPi_X7_82_3 k126 dX7_line_168 (fun H locs hR hS => ?_)
    obtain ⟨Im127, eIm127, hf⟩ := lt_some hf
    rw [← eIm127] at hR
    refine lv_goto (tgt := 248) hx hb dX7_line_171 (by decide) ?_
    obtain ⟨c128, hf⟩ := gdp_some hf
    refine W.widen c128.1 c128.2 ?_
    obtain rfl := some_i hf
    exact hend _ rfl _ _ _ _ dX7_line_248 hR hS
  have hf := ite_f c110 hf
  by_cases c129 : p1 = 6
  · have hf := ite_t c129 hf
    refine lv_tableIn (tgt := 174) hx hb dX7_line_1 (by rw [c129]; decide) (by rw [c129]; decide) (off := 173) (by rw [c129]; rfl) (by decide) ?_
    refine lv_aload_n hx hb dX7_line_174 rfl (lv_at hl 0 rfl) ?_
    obtain ⟨k130, hf⟩ := gdp_some hf
    obtain ⟨x131, ex131, hf⟩ := lt_some hf
    refine g_getx hx hb hts hown hG hR gFx_X7_15_5 k130 dX7_line_175 ?_
    rw [← ex131]
    refine lv_aload_n hx hb dX7_line_178 rfl (lv_at hl 0 rfl) ?_
    refine lv_iconst (v := 1) hx hb dX7_line_179 li_1 ?_
    refine lv_bipush (v := 9) hx hb dX7_line_180 lb_9 ?_
    obtain ⟨a133, ha133, hf⟩ := bind_s hf
    obtain ⟨g134, hf⟩ := gdp_some hf
    obtain ⟨g135, hf⟩ := gdp_some hf
    obtain ⟨g136, hf⟩ := gdp_some hf
    obtain ⟨g137, hf⟩ := gdp_some hf
    obtain ⟨r132, hr132, hf⟩ := bind_s hf
    refine x0_goi (vx_runU (As := [.int (1 : Int32), .int (9 : Int32)]) (rest := [va_rf x131]) (b := o) ⟨hx, hb, hml, hown, hts⟩ (m6_numberY l G K I J X A B Q o a133 g134 g135 g136 ha133 g137 (1 : Int32) (9 : Int32) (I 2 a133) (I 106 (a133 + 2)) (I 107 (a133 + 2)) (I 500 o) (I 501 o) (I 502 o) (I 503 o) (I 504 o) (I 505 o) (J 506 o) (A (a133 + 1)) rfl rfl rfl rfl rfl rfl rfl rfl rfl rfl rfl r132 hr132) (va_cwU (x := ⟨"PailRow$YardReader", "number", "(II)I"⟩) (owner := "PailRow$Reader") 2 hts gu_X7_60_5 rfl rfl rfl rfl ⟨by decide +kernel, by decide +kernel, by decide +kernel⟩ ⟨Nat.le_of_ble_eq_true rfl, Nat.le_of_ble_eq_true rfl⟩) (x_preV hG hR hW hS g134.1 rfl) rfl rfl hl.1 rfl (lv_room (by simp [va_rf_c, cat_r, cat_i, cat_l, cat_n])) dX7_line_182 ⟨Nat.zero_le _, Nat.zero_le _⟩) hS (fun H locs hnv140 hR hS => ?_) (fun v140 H locs hvv140 hR hS => ?_)
    · have hf := tr_n hnv140 hf
      obtain ⟨Im138, eIm138, hf⟩ := lt_some hf
      obtain ⟨Jm139, eJm139, hf⟩ := lt_some hf
      rw [← eIm138, ← eJm139] at hR
      obtain ⟨k142, hf⟩ := gdp_some hf
      obtain ⟨c143, hf⟩ := gdp_some hf
      refine vx_widen c143.1 c143.2 ?_
      obtain rfl := some_i hf
      exact hthr _ rfl _ _ _ _ _ k142 hR hS
    have hf := tr_s hvv140 hf
    obtain ⟨Im138, eIm138, hf⟩ := lt_some hf
    obtain ⟨Jm139, eJm139, hf⟩ := lt_some hf
    rw [← eIm138, ← eJm139] at hR
    obtain ⟨a144, ha144, hf⟩ := bind_s hf
    try rw [ha144]
    obtain ⟨k145, hf⟩ := gdp_some hf
    refine g_puti (v := v140) hx hb hts hown hG hR hS gPi_X7_85_3 k145 dX7_line_185 (fun H locs hR hS => ?_)
    obtain ⟨Im146, eIm146, hf⟩ := lt_some hf
    rw [← eIm146] at hR
    refine lv_goto (tgt := 248) hx hb dX7_line_188 (by decide) ?_
    obtain ⟨c147, hf⟩ := gdp_some hf
    refine W.widen c147.1 c147.2 ?_
    obtain rfl := some_i hf
    exact hend _ rfl _ _ _ _ dX7_line_248 hR hS
  have hf := ite_f c129 hf
  by_cases c148 : p1 = 7
  · have hf := ite_t c148 hf
    refine lv_tableIn (tgt := 191) hx hb dX7_line_1 (by rw [c148]; decide) (by rw [c148]; decide) (off := 190) (by rw [c148]; rfl) (by decide) ?_
    refine lv_aload_n hx hb dX7_line_191 rfl (lv_at hl 0 rfl) ?_
    obtain ⟨k149, hf⟩ := gdp_some hf
    obtain ⟨x150, ex150, hf⟩ := lt_some hf
    refine g_getx hx hb hts hown hG hR gFx_X7_15_5 k149 dX7_line_192 ?_
    rw [← ex150]
    refine lv_aload_n hx hb dX7_line_195 rfl (lv_at hl 0 rfl) ?_
    refine lv_aload_n hx hb dX7_line_196 rfl (lv_at hl 0 rfl) ?_
    obtain ⟨x151, ex151, hf⟩ := lt_some hf
    refine g_getx hx hb hts hown hG hR gFx_X7_3_5 k149 dX7_line_197 ?_
    rw [← ex151]
    obtain ⟨a152, ha152, hf⟩ := bind_s hf
    try rw [ha152]
    obtain ⟨k153, hf⟩ := gdp_some hf
    obtain ⟨x154, ex154, hf⟩ := lt_some hf
    refine g_getx hx hb hts hown hG hR gFx_X7_88_0 k153 dX7_line_200 ?_
    rw [← ex154]
    obtain ⟨a155, ha155, hf⟩ := bind_s hf
    try rw [ha155]
    obtain ⟨a157, ha157, hf⟩ := bind_s hf
    obtain ⟨g158, hf⟩ := gdp_some hf
    obtain ⟨g159, hf⟩ := gdp_some hf
    obtain ⟨g160, hf⟩ := gdp_some hf
    obtain ⟨g161, hf⟩ := gdp_some hf
    obtain ⟨r156, hr156, hf⟩ := bind_s hf
    refine x0_gor (vx_runU (As := [.ref a155]) (rest := [va_rf x150]) (b := o) ⟨hx, hb, hml, hown, hts⟩ (m6_findY l G K I J X A B Q o a157 g158 g159 ha157 a155 4 10 g160 (by decide) g161 (I 502 o) (I 503 o) (I 505 o) (A (a157 + 1)) rfl rfl rfl rfl r156 hr156) (va_cwU (x := ⟨"PailRow$YardReader", "find", "([Ljava/lang/String;)I"⟩) (owner := "PailRow$Reader") 1 hts gu_X7_31_5 rfl rfl rfl rfl ⟨by decide +kernel, by decide +kernel, by decide +kernel⟩ ⟨Nat.le_of_ble_eq_true rfl, Nat.le_of_ble_eq_true rfl⟩) (x_preV hG hR hW hS g158.1 rfl) rfl rfl hl.1 rfl (lv_room (by simp [va_rf_c, cat_r, cat_i, cat_l, cat_n])) dX7_line_203 ⟨Nat.zero_le _, Nat.zero_le _⟩) hS (fun H locs hR hS => ?_)
    obtain ⟨a162, ha162, hf⟩ := bind_s hf
    try rw [ha162]
    obtain ⟨k163, hf⟩ := gdp_some hf
    refine g_puti (v := r156) hx hb hts hown hG hR hS gPi_X7_91_3 k163 dX7_line_206 (fun H locs hR hS => ?_)
    obtain ⟨Im164, eIm164, hf⟩ := lt_some hf
    rw [← eIm164] at hR
    refine lv_aload_n hx hb dX7_line_209 rfl (lv_at hl 0 rfl) ?_
    refine lv_aload_n hx hb dX7_line_210 rfl (lv_at hl 0 rfl) ?_
    refine g_getx hx hb hts hown hG hR gFx_X7_15_5 k149 dX7_line_211 ?_
    rw [← ex150]
    try rw [ha162]
    obtain ⟨v165, ev165, hf⟩ := lt_some hf
    refine n_geti (v := v165) hx hb hts hown hG hR gFi_X7_91_3 k163 ev165.symm dX7_line_214 ?_
    refine lv_iconst (v := -1) hx hb dX7_line_217 li_m1 ?_
    have hj226 : ∀ (j226_s0 : Int32), w7_line_j226 o K J X A B Q n Im164 j226_s0 = some out → ∀ (H : Heap) (locs : List Loc) (ls : Array Slot), RS G K Im164 J X A B Q H → va_S (gA G) s.heap H locs → lv_has ls 2 [(0, .ref o)] → W p l e ({ frames := 8, cells := 1, slots := 4, locals := 173 } : Room) s m args below meth c H locs 0 0 Z (F0 m 226 ls [.int j226_s0, .ref o]) := by
      intro j226_s0 hf H locs ls hR hS hl
      unfold w7_line_j226 at hf
      refine lv_iconst (v := 1) hx hb dX7_line_226 li_1 ?_
      obtain ⟨a167, ha167, hf⟩ := bind_s hf
      obtain ⟨g168, hf⟩ := gdp_some hf
      obtain ⟨g169, hf⟩ := gdp_some hf
      obtain ⟨g170, hf⟩ := gdp_some hf
      obtain ⟨r166, hr166, hf⟩ := bind_s hf
      refine x0_gou (vx_runU (As := [.int j226_s0, .int (1 : Int32)]) (rest := []) (b := o) ⟨hx, hb, hml, hown, hts⟩ (m6_mustY l G K Im164 J X A B Q o a167 g158 g168 g169 ha167 g170 j226_s0 (1 : Int32) (Im164 106 (a167 + 2)) (Im164 107 (a167 + 2)) (Im164 502 o) rfl rfl rfl r166 hr166) (va_cwU (x := ⟨"PailRow$YardReader", "must", "(ZI)V"⟩) (owner := "PailRow$Reader") 2 hts gu_X7_35_5 rfl rfl rfl rfl ⟨by decide +kernel, by decide +kernel, by decide +kernel⟩ ⟨Nat.le_of_ble_eq_true rfl, Nat.le_of_ble_eq_true rfl⟩) (x_preV hG hR hW hS g158.1 rfl) rfl rfl hl.1 rfl (lv_room (Nat.le_of_ble_eq_true rfl)) dX7_line_227 ⟨Nat.zero_le _, Nat.zero_le _⟩) hS (fun H locs hnv172 hR hS => ?_) (fun v172 H locs hvv172 hR hS => ?_)
      · have hf := tr_n hnv172 hf
        obtain ⟨Im171, eIm171, hf⟩ := lt_some hf
        rw [← eIm171] at hR
        obtain ⟨k174, hf⟩ := gdp_some hf
        obtain ⟨c175, hf⟩ := gdp_some hf
        refine vx_widen c175.1 c175.2 ?_
        obtain rfl := some_i hf
        exact hthr _ rfl _ _ _ _ _ k174 hR hS
      have hf := tr_s hvv172 hf
      obtain ⟨Im171, eIm171, hf⟩ := lt_some hf
      rw [← eIm171] at hR
      refine lv_aload_n hx hb dX7_line_230 rfl (lv_at hl 0 rfl) ?_
      obtain ⟨a177, ha177, hf⟩ := bind_s hf
      obtain ⟨g178, hf⟩ := gdp_some hf
      obtain ⟨r176, hr176, hf⟩ := bind_s hf
      refine g0_cUv (rm := (3, 65)) (As := []) (rest := []) ⟨hx, hb, hml, hown, hts⟩ hG hR hS (m6_nextY l G K Im171 J X A B Q o a177 g158 g178 ha177 (Im171 2 a177) (Im171 500 o) (Im171 501 o) (Im171 502 o) (Im171 503 o) (Im171 504 o) (Im171 505 o) (J 506 o) (A (a177 + 1)) rfl rfl rfl rfl rfl rfl rfl rfl rfl r176 hr176) (va_cwU (x := ⟨"PailRow$YardReader", "next", "()V"⟩) (owner := "PailRow$Reader") 0 hts gu_X7_47_5 rfl rfl rfl rfl ⟨by decide +kernel, by decide +kernel, by decide +kernel⟩ ⟨Nat.le_of_ble_eq_true rfl, Nat.le_of_ble_eq_true rfl⟩) g158.1 rfl rfl hl.1 (Nat.le_of_ble_eq_true rfl) dX7_line_231 ⟨Nat.zero_le _, Nat.zero_le _⟩ rfl (fun H locs hR hS => ?_)
      obtain ⟨Im179, eIm179, hf⟩ := lt_some hf
      obtain ⟨Jm180, eJm180, hf⟩ := lt_some hf
      rw [← eIm179, ← eJm180] at hR
      refine lv_goto (tgt := 248) hx hb dX7_line_234 (by decide) ?_
      obtain ⟨c181, hf⟩ := gdp_some hf
      refine W.widen c181.1 c181.2 ?_
      obtain rfl := some_i hf
      exact hend _ rfl _ _ _ _ dX7_line_248 hR hS
    refine lv_icmp_eq (tgt := 225) hx hb dX7_line_218 (by decide) (fun c182 => ?_) (fun c182 => ?_)
    · have hf := ite_t c182 hf
      refine lv_iconst (v := 0) hx hb dX7_line_225 li_0 ?_
      exact hj226 (0 : Int32) hf _ _ _ hR hS (lv_sub hl [0] rfl)
    · have hf := ite_f c182 hf
      refine lv_iconst (v := 1) hx hb dX7_line_221 li_1 ?_
      refine lv_goto (tgt := 226) hx hb dX7_line_222 (by decide) ?_
      exact hj226 (1 : Int32) hf _ _ _ hR hS (lv_sub hl [0] rfl)
  have hf := ite_f c148 hf
  by_cases c183 : p1 = 8
  · have hf := ite_t c183 hf
    refine lv_tableIn (tgt := 237) hx hb dX7_line_1 (by rw [c183]; decide) (by rw [c183]; decide) (off := 236) (by rw [c183]; rfl) (by decide) ?_
    refine lv_aload_n hx hb dX7_line_237 rfl (lv_at hl 0 rfl) ?_
    obtain ⟨a185, ha185, hf⟩ := bind_s hf
    obtain ⟨a186, ha186, hf⟩ := bind_s hf
    obtain ⟨g187, hf⟩ := gdp_some hf
    obtain ⟨g188, hf⟩ := gdp_some hf
    obtain ⟨g189, hf⟩ := gdp_some hf
    obtain ⟨g190, hf⟩ := gdp_some hf
    obtain ⟨g191, hf⟩ := gdp_some hf
    obtain ⟨g192, hf⟩ := gdp_some hf
    obtain ⟨g193, hf⟩ := gdp_some hf
    obtain ⟨r184, hr184, hf⟩ := bind_s hf
    refine x0_gou (vx_runV (As := []) (rest := []) (b := o) ⟨hx, hb, hml, hown, hts⟩ (m7_cells l G K I J X A B Q o a185 a186 g187 g188 g189 g190 ha185 ha186 g191 g192 g193 (I 2 a185) (I 106 (a185 + 2)) (I 107 (a185 + 2)) (I 304 a186) (I 305 a186) (I 500 o) (I 501 o) (I 502 o) (I 503 o) (I 504 o) (I 505 o) (J 506 o) (A (a185 + 1)) (A (a186 + 2)) rfl rfl rfl rfl rfl rfl rfl rfl rfl rfl rfl rfl rfl rfl r184 hr184) ⟨callB_of 0 hts (lw_meth q1006) rfl rfl rfl (hts _ q111) (hts _ q1003) (by decide +kernel) ⟨Nat.le_of_ble_eq_true rfl, Nat.le_of_ble_eq_true rfl⟩, hts _ q1005, hts _ qs5⟩ (x_preV hG hR hW hS g187.1 rfl) rfl rfl hl.1 rfl (lv_room (Nat.le_of_ble_eq_true rfl)) dX7_line_238 ⟨Nat.zero_le _, Nat.zero_le _⟩) hS (fun H locs hnv197 hR hS => ?_) (fun v197 H locs hvv197 hR hS => ?_)
    · have hf := tr_n hnv197 hf
      obtain ⟨Im194, eIm194, hf⟩ := lt_some hf
      obtain ⟨Jm195, eJm195, hf⟩ := lt_some hf
      obtain ⟨Am196, eAm196, hf⟩ := lt_some hf
      rw [← eIm194, ← eJm195, ← eAm196] at hR
      obtain ⟨k199, hf⟩ := gdp_some hf
      obtain ⟨c200, hf⟩ := gdp_some hf
      refine vx_widen c200.1 c200.2 ?_
      obtain rfl := some_i hf
      exact hthr _ rfl _ _ _ _ _ k199 hR hS
    have hf := tr_s hvv197 hf
    obtain ⟨Im194, eIm194, hf⟩ := lt_some hf
    obtain ⟨Jm195, eJm195, hf⟩ := lt_some hf
    obtain ⟨Am196, eAm196, hf⟩ := lt_some hf
    rw [← eIm194, ← eJm195, ← eAm196] at hR
    refine lv_goto (tgt := 248) hx hb dX7_line_241 (by decide) ?_
    obtain ⟨c201, hf⟩ := gdp_some hf
    refine W.widen c201.1 c201.2 ?_
    obtain rfl := some_i hf
    exact hend _ rfl _ _ _ _ dX7_line_248 hR hS
  have hf := ite_f c183 hf
  have hto := tb_out_0_8 p1 c1 c10 c29 c60 c91 c110 c129 c148 c183
  refine lv_tableOut (tgt := 244) hx hb dX7_line_1 hto (by decide) ?_
  refine lv_aload_n hx hb dX7_line_244 rfl (lv_at hl 0 rfl) ?_
  obtain ⟨a203, ha203, hf⟩ := bind_s hf
  obtain ⟨a204, ha204, hf⟩ := bind_s hf
  obtain ⟨g205, hf⟩ := gdp_some hf
  obtain ⟨g206, hf⟩ := gdp_some hf
  obtain ⟨g207, hf⟩ := gdp_some hf
  obtain ⟨g208, hf⟩ := gdp_some hf
  obtain ⟨g209, hf⟩ := gdp_some hf
  obtain ⟨g210, hf⟩ := gdp_some hf
  obtain ⟨g211, hf⟩ := gdp_some hf
  obtain ⟨r202, hr202, hf⟩ := bind_s hf
  refine x0_gou (vx_runV (As := []) (rest := []) (b := o) ⟨hx, hb, hml, hown, hts⟩ (m7_burn l G K I J X A B Q o a203 a204 g205 g206 g207 g208 ha203 ha204 g209 g210 g211 (I 2 a203) (I 106 (a203 + 2)) (I 107 (a203 + 2)) (I 304 a204) (I 305 a204) (I 500 o) (I 501 o) (I 502 o) (I 503 o) (I 504 o) (I 505 o) (J 506 o) (A (a203 + 1)) (A (a204 + 2)) (A (a204 + 3)) rfl rfl rfl rfl rfl rfl rfl rfl rfl rfl rfl rfl rfl rfl rfl r202 hr202) ⟨callB_of 0 hts (lw_meth q1010) rfl rfl rfl (hts _ q111) (hts _ q1007) (by decide +kernel) ⟨Nat.le_of_ble_eq_true rfl, Nat.le_of_ble_eq_true rfl⟩, hts _ q1009, hts _ qs6⟩ (x_preV hG hR hW hS g205.1 rfl) rfl rfl hl.1 rfl (lv_room (Nat.le_of_ble_eq_true rfl)) dX7_line_245 ⟨Nat.zero_le _, Nat.zero_le _⟩) hS (fun H locs hnv215 hR hS => ?_) (fun v215 H locs hvv215 hR hS => ?_)
  · have hf := tr_n hnv215 hf
    obtain ⟨Im212, eIm212, hf⟩ := lt_some hf
    obtain ⟨Jm213, eJm213, hf⟩ := lt_some hf
    obtain ⟨Am214, eAm214, hf⟩ := lt_some hf
    rw [← eIm212, ← eJm213, ← eAm214] at hR
    obtain ⟨k217, hf⟩ := gdp_some hf
    obtain ⟨c218, hf⟩ := gdp_some hf
    refine vx_widen c218.1 c218.2 ?_
    obtain rfl := some_i hf
    exact hthr _ rfl _ _ _ _ _ k217 hR hS
  have hf := tr_s hvv215 hf
  obtain ⟨Im212, eIm212, hf⟩ := lt_some hf
  obtain ⟨Jm213, eJm213, hf⟩ := lt_some hf
  obtain ⟨Am214, eAm214, hf⟩ := lt_some hf
  rw [← eIm212, ← eJm213, ← eAm214] at hR
  obtain ⟨c219, hf⟩ := gdp_some hf
  refine W.widen c219.1 c219.2 ?_
  obtain rfl := some_i hf
  exact hend _ rfl _ _ _ _ dX7_line_248 hR hS
noncomputable def w7_read_e9_0 (x9_0 : Int32 × gK × gI × gJ × gX × gI × gJ × gX × Nat × Nat × Nat) : Option ((Nat ⊕ Int32) × gK × gI × gJ × gX × gI × gJ × gX × Nat) :=
  gdp (x9_0.2.2.2.2.2.2.2.2.2.1 ≤ 12 ∧ x9_0.2.2.2.2.2.2.2.2.2.2 ≤ 48) <|
  some ((.inr x9_0.1), x9_0.2.1, x9_0.2.2.1, x9_0.2.2.2.1, x9_0.2.2.2.2.1, x9_0.2.2.2.2.2.1, x9_0.2.2.2.2.2.2.1, x9_0.2.2.2.2.2.2.2.1, x9_0.2.2.2.2.2.2.2.2.1)

noncomputable def w7_read_e9_1 (x9_1 : (Nat ⊕ Int32) × gK × gI × gJ × gX × gI × gJ × gX × Nat) : Option ((Nat ⊕ Int32) × gK × gI × gJ × gX × gI × gJ × gX × Nat) :=
  some x9_1

noncomputable def w7_read_j130 (zz : Nat) (adS : Nat → Nat) (o : Nat) (w9_2 : Int32) (w9_3 : Int32) (w9_K : gK) (w9_J : gJ) (w9_X : gX) (w9_A : gI) (w9_B : gJ) (w9_Q : gX) (w9_n : Nat) (w9_u : Nat) (w9_v : Nat) (r19 : Int32) (Im41 : gI) (j130_s0 : Int32) : Option ((Int32 × Int32 × gK × gI × gJ × gX × gI × gJ × gX × Nat × Nat × Nat) ⊕ ((Int32 × gK × gI × gJ × gX × gI × gJ × gX × Nat × Nat × Nat) ⊕ ((Nat ⊕ Int32) × gK × gI × gJ × gX × gI × gJ × gX × Nat))) :=
  (w9_X 507 o).bind fun a47 =>
  gdp (Sh w9_K w9_X a47 0 rows0) <|
  gdp (w9_K (a47 + 2) = some (.inl 1)) <|
  gdp (w9_X 4 a47 = some (a47 + 2)) <|
  (f6_mustY j130_s0 (4 : Int32) (Im41 106 (a47 + 2)) (Im41 107 (a47 + 2)) (Im41 502 o)).bind fun r46 =>
  tr r46.1 (
    lt ((ov Im41 [(106, (a47 + 2), r46.2.1), (107, (a47 + 2), r46.2.2)])) fun Im51 =>
    gdp (w9_K (a47 + 2) = some (.inl 1)) <|
    gdp (w9_u ≤ 12 ∧ w9_v ≤ 48) <|
    some (.inr (.inr ((.inl (a47 + 2)), w9_K, Im51, w9_J, w9_X, w9_A, w9_B, w9_Q, w9_n)))
    ) fun v52 =>
  lt ((ov Im41 [(106, (a47 + 2), r46.2.1), (107, (a47 + 2), r46.2.2)])) fun Im51 =>
  lt ((1 : Int32) <<< (r19 &&& 31)) fun v56 =>
  lt (w9_3 ||| v56) fun v57 =>
  (w9_X 507 o).bind fun a59 =>
  gdp (Sh w9_K w9_X a59 0 rows0) <|
  (f6_nextY (Im51 2 a59) (Im51 500 o) (Im51 501 o) (Im51 502 o) (Im51 503 o) (Im51 504 o) (Im51 505 o) (w9_J 506 o) (w9_A (a59 + 1))).bind fun r58 =>
  lt ((ov Im51 [(501, o, r58.1), (502, o, r58.2.1), (503, o, r58.2.2.1), (504, o, r58.2.2.2.1), (505, o, r58.2.2.2.2.1)])) fun Im61 =>
  lt ((ov w9_J [(506, o, r58.2.2.2.2.2)])) fun Jm62 =>
  gdp (w9_u + 1 ≤ 12 ∧ w9_v + 4 ≤ 48) <|
  (w7_line zz adS o r19 w9_K Im61 Jm62 w9_X w9_A w9_B w9_Q w9_n).bind fun r63 =>
  trs r63.1 (fun b66 =>
    gdp (r63.2.1 b66 = some (.inl 1)) <|
    gdp ((w9_u + 1) ≤ 12 ∧ (w9_v + 4) ≤ 48) <|
    some (.inr (.inr ((.inl b66), r63.2.1, r63.2.2.1, r63.2.2.2.1, r63.2.2.2.2.1, r63.2.2.2.2.2.1, r63.2.2.2.2.2.2.1, r63.2.2.2.2.2.2.2.1, r63.2.2.2.2.2.2.2.2)))
    ) fun v65 =>
  gdp ((w9_u + 1) ≤ 12 ∧ (w9_v + 4) ≤ 48) <|
  (r63.2.2.2.2.1 507 o).bind fun a71 =>
  gdp (Sh r63.2.1 r63.2.2.2.2.1 o 5 rows5) <|
  gdp (Sh r63.2.1 r63.2.2.2.2.1 a71 0 rows0) <|
  gdp (r63.2.1 (a71 + 2) = some (.inl 1)) <|
  gdp (r63.2.2.2.2.1 4 a71 = some (a71 + 2)) <|
  (f6_signY (59 : Int32) (r63.2.2.1 2 a71) (r63.2.2.1 106 (a71 + 2)) (r63.2.2.1 107 (a71 + 2)) (r63.2.2.1 500 o) (r63.2.2.1 501 o) (r63.2.2.1 502 o) (r63.2.2.1 503 o) (r63.2.2.1 504 o) (r63.2.2.1 505 o) (r63.2.2.2.1 506 o) (r63.2.2.2.2.2.1 (a71 + 1))).bind fun r69 =>
  tr r69.1 (
    lt ((ov r63.2.2.1 [(106, (a71 + 2), r69.2.1), (107, (a71 + 2), r69.2.2.1), (501, o, r69.2.2.2.1), (502, o, r69.2.2.2.2.1), (503, o, r69.2.2.2.2.2.1), (504, o, r69.2.2.2.2.2.2.1), (505, o, r69.2.2.2.2.2.2.2.1)])) fun Im76 =>
    lt ((ov r63.2.2.2.1 [(506, o, r69.2.2.2.2.2.2.2.2)])) fun Jm77 =>
    gdp (r63.2.1 (a71 + 2) = some (.inl 1)) <|
    gdp ((w9_u + 1) ≤ 12 ∧ (w9_v + 4) ≤ 48) <|
    some (.inr (.inr ((.inl (a71 + 2)), r63.2.1, Im76, Jm77, r63.2.2.2.2.1, r63.2.2.2.2.2.1, r63.2.2.2.2.2.2.1, r63.2.2.2.2.2.2.2.1, r63.2.2.2.2.2.2.2.2)))
    ) fun v78 =>
  lt ((ov r63.2.2.1 [(106, (a71 + 2), r69.2.1), (107, (a71 + 2), r69.2.2.1), (501, o, r69.2.2.2.1), (502, o, r69.2.2.2.2.1), (503, o, r69.2.2.2.2.2.1), (504, o, r69.2.2.2.2.2.2.1), (505, o, r69.2.2.2.2.2.2.2.1)])) fun Im76 =>
  lt ((ov r63.2.2.2.1 [(506, o, r69.2.2.2.2.2.2.2.2)])) fun Jm77 =>
  lt (w9_2 + (1 : Int32)) fun v82 =>
  some (.inl (v82, v57, r63.2.1, Im76, Jm77, r63.2.2.2.2.1, r63.2.2.2.2.2.1, r63.2.2.2.2.2.2.1, r63.2.2.2.2.2.2.2.1, r63.2.2.2.2.2.2.2.2, (w9_u + 1), (w9_v + 4)))

noncomputable def w7_read_j125 (zz : Nat) (adS : Nat → Nat) (o : Nat) (w9_2 : Int32) (w9_3 : Int32) (w9_K : gK) (w9_J : gJ) (w9_X : gX) (w9_A : gI) (w9_B : gJ) (w9_Q : gX) (w9_n : Nat) (w9_u : Nat) (w9_v : Nat) (r19 : Int32) (Im41 : gI) : Option ((Int32 × Int32 × gK × gI × gJ × gX × gI × gJ × gX × Nat × Nat × Nat) ⊕ ((Int32 × gK × gI × gJ × gX × gI × gJ × gX × Nat × Nat × Nat) ⊕ ((Nat ⊕ Int32) × gK × gI × gJ × gX × gI × gJ × gX × Nat))) :=
  w7_read_j130 zz adS o w9_2 w9_3 w9_K w9_J w9_X w9_A w9_B w9_Q w9_n w9_u w9_v r19 Im41 (1 : Int32)

noncomputable def w7_read_j76 (zz : Nat) (adS : Nat → Nat) (o : Nat) (w9_2 : Int32) (w9_3 : Int32) (w9_K : gK) (w9_J : gJ) (w9_X : gX) (w9_A : gI) (w9_B : gJ) (w9_Q : gX) (w9_n : Nat) (w9_u : Nat) (w9_v : Nat) (r19 : Int32) (Im31 : gI) (j76_s0 : Int32) : Option ((Int32 × Int32 × gK × gI × gJ × gX × gI × gJ × gX × Nat × Nat × Nat) ⊕ ((Int32 × gK × gI × gJ × gX × gI × gJ × gX × Nat × Nat × Nat) ⊕ ((Nat ⊕ Int32) × gK × gI × gJ × gX × gI × gJ × gX × Nat))) :=
  (w9_X 507 o).bind fun a37 =>
  gdp (Sh w9_K w9_X a37 0 rows0) <|
  gdp (w9_K (a37 + 2) = some (.inl 1)) <|
  gdp (w9_X 4 a37 = some (a37 + 2)) <|
  (f6_mustY j76_s0 (3 : Int32) (Im31 106 (a37 + 2)) (Im31 107 (a37 + 2)) (Im31 502 o)).bind fun r36 =>
  tr r36.1 (
    lt ((ov Im31 [(106, (a37 + 2), r36.2.1), (107, (a37 + 2), r36.2.2)])) fun Im41 =>
    gdp (w9_K (a37 + 2) = some (.inl 1)) <|
    gdp (w9_u ≤ 12 ∧ w9_v ≤ 48) <|
    some (.inr (.inr ((.inl (a37 + 2)), w9_K, Im41, w9_J, w9_X, w9_A, w9_B, w9_Q, w9_n)))
    ) fun v42 =>
  lt ((ov Im31 [(106, (a37 + 2), r36.2.1), (107, (a37 + 2), r36.2.2)])) fun Im41 =>
  if r19 = 0 then
    lt (w9_X 508 o) fun x90 =>
    (x90).bind fun a91 =>
    gdp (w9_K a91 = some (.inl 3)) <|
    lt (Im41 303 a91) fun v93 =>
    if (12 : Int32) ≤ v93 then
      w7_read_j130 zz adS o w9_2 w9_3 w9_K w9_J w9_X w9_A w9_B w9_Q w9_n w9_u w9_v r19 Im41 (0 : Int32)
    else
      w7_read_j130 zz adS o w9_2 w9_3 w9_K w9_J w9_X w9_A w9_B w9_Q w9_n w9_u w9_v r19 Im41 (1 : Int32)
  else
    if r19 = (8 : Int32) then
      lt (w9_X 508 o) fun x85 =>
      (x85).bind fun a86 =>
      gdp (w9_K a86 = some (.inl 3)) <|
      lt (Im41 305 a86) fun v88 =>
      if (8 : Int32) ≤ v88 then
        w7_read_j130 zz adS o w9_2 w9_3 w9_K w9_J w9_X w9_A w9_B w9_Q w9_n w9_u w9_v r19 Im41 (0 : Int32)
      else
        w7_read_j125 zz adS o w9_2 w9_3 w9_K w9_J w9_X w9_A w9_B w9_Q w9_n w9_u w9_v r19 Im41
    else
      w7_read_j125 zz adS o w9_2 w9_3 w9_K w9_J w9_X w9_A w9_B w9_Q w9_n w9_u w9_v r19 Im41

noncomputable def w7_read_j71 (zz : Nat) (adS : Nat → Nat) (o : Nat) (w9_2 : Int32) (w9_3 : Int32) (w9_K : gK) (w9_J : gJ) (w9_X : gX) (w9_A : gI) (w9_B : gJ) (w9_Q : gX) (w9_n : Nat) (w9_u : Nat) (w9_v : Nat) (r19 : Int32) (Im31 : gI) : Option ((Int32 × Int32 × gK × gI × gJ × gX × gI × gJ × gX × Nat × Nat × Nat) ⊕ ((Int32 × gK × gI × gJ × gX × gI × gJ × gX × Nat × Nat × Nat) ⊕ ((Nat ⊕ Int32) × gK × gI × gJ × gX × gI × gJ × gX × Nat))) :=
  w7_read_j76 zz adS o w9_2 w9_3 w9_K w9_J w9_X w9_A w9_B w9_Q w9_n w9_u w9_v r19 Im31 (1 : Int32)

noncomputable def w7_read_j45 (zz : Nat) (adS : Nat → Nat) (o : Nat) (w9_2 : Int32) (w9_3 : Int32) (w9_K : gK) (w9_I : gI) (w9_J : gJ) (w9_X : gX) (w9_A : gI) (w9_B : gJ) (w9_Q : gX) (w9_n : Nat) (w9_u : Nat) (w9_v : Nat) (r19 : Int32) (j45_s0 : Int32) : Option ((Int32 × Int32 × gK × gI × gJ × gX × gI × gJ × gX × Nat × Nat × Nat) ⊕ ((Int32 × gK × gI × gJ × gX × gI × gJ × gX × Nat × Nat × Nat) ⊕ ((Nat ⊕ Int32) × gK × gI × gJ × gX × gI × gJ × gX × Nat))) :=
  (w9_X 507 o).bind fun a27 =>
  gdp (Sh w9_K w9_X a27 0 rows0) <|
  gdp (w9_K (a27 + 2) = some (.inl 1)) <|
  gdp (w9_X 4 a27 = some (a27 + 2)) <|
  (f6_mustY j45_s0 (1 : Int32) (w9_I 106 (a27 + 2)) (w9_I 107 (a27 + 2)) (w9_I 502 o)).bind fun r26 =>
  tr r26.1 (
    lt ((ov w9_I [(106, (a27 + 2), r26.2.1), (107, (a27 + 2), r26.2.2)])) fun Im31 =>
    gdp (w9_K (a27 + 2) = some (.inl 1)) <|
    gdp (w9_u ≤ 12 ∧ w9_v ≤ 48) <|
    some (.inr (.inr ((.inl (a27 + 2)), w9_K, Im31, w9_J, w9_X, w9_A, w9_B, w9_Q, w9_n)))
    ) fun v32 =>
  lt ((ov w9_I [(106, (a27 + 2), r26.2.1), (107, (a27 + 2), r26.2.2)])) fun Im31 =>
  if r19 = 0 then
    w7_read_j71 zz adS o w9_2 w9_3 w9_K w9_J w9_X w9_A w9_B w9_Q w9_n w9_u w9_v r19 Im31
  else
    if (7 : Int32) < r19 then
      w7_read_j71 zz adS o w9_2 w9_3 w9_K w9_J w9_X w9_A w9_B w9_Q w9_n w9_u w9_v r19 Im31
    else
      lt (w9_3 >>> (r19 &&& 31)) fun v97 =>
      lt (v97 &&& (1 : Int32)) fun v98 =>
      if v98 = 0 then
        w7_read_j71 zz adS o w9_2 w9_3 w9_K w9_J w9_X w9_A w9_B w9_Q w9_n w9_u w9_v r19 Im31
      else
        w7_read_j76 zz adS o w9_2 w9_3 w9_K w9_J w9_X w9_A w9_B w9_Q w9_n w9_u w9_v r19 Im31 (0 : Int32)

noncomputable def w7_read_s9 (zz : Nat) (adS : Nat → Nat) (o : Nat) (w9_2 : Int32) (w9_3 : Int32) (w9_K : gK) (w9_I : gI) (w9_J : gJ) (w9_X : gX) (w9_A : gI) (w9_B : gJ) (w9_Q : gX) (w9_n : Nat) (w9_u : Nat) (w9_v : Nat) : Option ((Int32 × Int32 × gK × gI × gJ × gX × gI × gJ × gX × Nat × Nat × Nat) ⊕ ((Int32 × gK × gI × gJ × gX × gI × gJ × gX × Nat × Nat × Nat) ⊕ ((Nat ⊕ Int32) × gK × gI × gJ × gX × gI × gJ × gX × Nat))) :=
  gdp (w9_K o = some (.inl 5)) <|
  lt (w9_I 503 o) fun v12 =>
  if v12 = 0 then
    some (.inr (.inl (w9_2, w9_K, w9_I, w9_J, w9_X, w9_A, w9_B, w9_Q, w9_n, w9_u, w9_v)))
  else
    lt (w9_X 509 o) fun x14 =>
    (x14).bind fun a15 =>
    gdp (w9_K a15 = some (.inl 0)) <|
    lt (w9_X 5 a15) fun x17 =>
    (x17).bind fun a18 =>
    gdp (w9_u ≤ 12 ∧ w9_v ≤ 48) <|
    (w9_X 507 o).bind fun a21 =>
    gdp (Sh w9_K w9_X o 5 rows5) <|
    gdp (Sh w9_K w9_X a21 0 rows0) <|
    gdp (w9_K a18 = some (.inr (8, 10))) <|
    gdp (∀ j, j < 10 → w9_Q a18 j = some (adS (0 + j))) <|
    (f6_findY 10 0 (w9_I 502 o) (w9_I 503 o) (w9_I 505 o) (w9_A (a21 + 1))).bind fun r19 =>
    if r19 = (-1 : Int32) then
      w7_read_j45 zz adS o w9_2 w9_3 w9_K w9_I w9_J w9_X w9_A w9_B w9_Q w9_n w9_u w9_v r19 (0 : Int32)
    else
      w7_read_j45 zz adS o w9_2 w9_3 w9_K w9_I w9_J w9_X w9_A w9_B w9_Q w9_n w9_u w9_v r19 (1 : Int32)

noncomputable def w7_read (zz : Nat) (adS : Nat → Nat) (o : Nat) (a1 : Nat) (K : gK) (I : gI) (J : gJ) (X : gX) (A : gI) (B : gJ) (Q : gX) (n : Nat) : Option ((Nat ⊕ Int32) × gK × gI × gJ × gX × gI × gJ × gX × Nat) :=
  gdp (∃ a, K a ≠ none) <|
  gdp (K o = some (.inl 5)) <|
  lt (i_up X 508 o (some a1)) fun Xm2 =>
  (Xm2 507 o).bind fun a4 =>
  gdp (Sh K Xm2 o 5 rows5) <|
  gdp (Sh K Xm2 a4 0 rows0) <|
  (f6_beginY (I 2 a4) (I 500 o) (I 501 o) (I 502 o) (I 503 o) (I 504 o) (I 505 o) (J 506 o) (A (a4 + 1))).bind fun r3 =>
  lt ((ov I [(501, o, r3.1), (502, o, r3.2.1), (503, o, r3.2.2.1), (504, o, r3.2.2.2.1), (505, o, r3.2.2.2.2.1)])) fun Im7 =>
  lt ((ov J [(506, o, r3.2.2.2.2.2)])) fun Jm8 =>
  (whl (fun (s9 : Int32 × Int32 × gK × gI × gJ × gX × gI × gJ × gX × Nat × Nat × Nat) => w7_read_s9 zz adS o s9.1 s9.2.1 s9.2.2.1 s9.2.2.2.1 s9.2.2.2.2.1 s9.2.2.2.2.2.1 s9.2.2.2.2.2.2.1 s9.2.2.2.2.2.2.2.1 s9.2.2.2.2.2.2.2.2.1 s9.2.2.2.2.2.2.2.2.2.1 s9.2.2.2.2.2.2.2.2.2.2.1 s9.2.2.2.2.2.2.2.2.2.2.2) FU ((0 : Int32), (0 : Int32), K, Im7, Jm8, Xm2, A, B, Q, n, 0, 0)).bind fun rl9 =>
  Sum.elim (w7_read_e9_0) (w7_read_e9_1) rl9
set_option maxHeartbeats 4000000 in
theorem m7_read_w (l : Launch) (G : gG) (K : gK) (I : gI) (J : gJ) (X : gX) (A : gI) (B : gJ) (Q : gX) (n : Nat) (o : Nat) (a1 : Nat) (out : (Nat ⊕ Int32) × gK × gI × gJ × gX × gI × gJ × gX × Nat) (hf : w7_read G.2.2 (aK G) o a1 K I J X A B Q n = some out) : GMetX l yX7_read cX7_read 5 (some .int) (9) (194) G [.ref o, .ref a1] K I J X A B Q (xsi "PailRow$Fault" out.1) out.2.1 out.2.2.1 out.2.2.2.1 out.2.2.2.2.1 out.2.2.2.2.2.1 out.2.2.2.2.2.2.1 out.2.2.2.2.2.2.2.1 12 48 := by
  refine GMetX.of (y := yX7_read) rfl (Nat.le_of_ble_eq_true rfl) (la := [(0, .ref o), (1, .ref a1)]) rfl ?_
  intro p e s m below meth c ls hx hb hr hml hlocks hts hown hname ht hG hR hW hl
  have hown : s.vm.findClass RX7 = some m.cls := hown
  have hS : va_S (gA G) s.heap s.heap [] := va_S.rf
  have hz : (∃ a, K a ≠ none) → G.2.2 ≤ s.heap.size := fun ⟨a, h⟩ => Nat.le_of_lt (Nat.lt_of_le_of_lt (hR.ge h) (hR.lt h))
  have hend : ∀ (v : Int32), out.1 = .inr v → ∀ (pc : Nat) (H : Heap) (locs : List Loc) (ls : Array Slot), decode cX7_read pc = .ok (.ireturn, 1) → RS G out.2.1 out.2.2.1 out.2.2.2.1 out.2.2.2.2.1 out.2.2.2.2.2.1 out.2.2.2.2.2.2.1 out.2.2.2.2.2.2.2.1 H → va_S (gA G) s.heap H locs → W p l e ({ frames := 9, cells := 12, slots := 48, locals := 194 } : Room) s m ([.ref o, .ref a1] : List Value).toArray below meth c H locs 12 48 (vx_MQ below (xQ G (xsi "PailRow$Fault" out.1) out.2.1 out.2.2.1 out.2.2.2.1 out.2.2.2.2.1 out.2.2.2.2.2.1 out.2.2.2.2.2.2.1 out.2.2.2.2.2.2.2.1) (xX G (xsi "PailRow$Fault" out.1) out.2.1 out.2.2.1 out.2.2.2.1 out.2.2.2.2.1 out.2.2.2.2.2.1 out.2.2.2.2.2.2.1 out.2.2.2.2.2.2.2.1) ([.ref o, .ref a1] : List Value).toArray s 12 48 (gA G)) (F0 m pc ls [.int v]) := fun v hv pc H locs ls hd hR hS => x_nret hx hb hr rfl hlocks hG hR hS (by rw [hv]; rfl) hd
  have hthr : ∀ (b : Nat), out.1 = .inl b → ∀ (pc : Nat) (H : Heap) (locs : List Loc) (ls : Array Slot) (rest : List Value), out.2.1 b = some (.inl 1) → RS G out.2.1 out.2.2.1 out.2.2.2.1 out.2.2.2.2.1 out.2.2.2.2.2.1 out.2.2.2.2.2.2.1 out.2.2.2.2.2.2.2.1 H → va_S (gA G) s.heap H locs → vx_W p l e ({ frames := 9, cells := 12, slots := 48, locals := 194 } : Room) s m ([.ref o, .ref a1] : List Value).toArray below meth c H locs 12 48 (vx_MQ below (xQ G (xsi "PailRow$Fault" out.1) out.2.1 out.2.2.1 out.2.2.2.1 out.2.2.2.2.1 out.2.2.2.2.2.1 out.2.2.2.2.2.2.1 out.2.2.2.2.2.2.2.1) (xX G (xsi "PailRow$Fault" out.1) out.2.1 out.2.2.1 out.2.2.2.1 out.2.2.2.2.1 out.2.2.2.2.2.1 out.2.2.2.2.2.2.1 out.2.2.2.2.2.2.2.1) ([.ref o, .ref a1] : List Value).toArray s 12 48 (gA G)) (F0 m pc ls rest) b := fun b hn pc H locs ls rest hk hR hS => x_out (ci := 1) ht hlocks hG hR hS hk rfl (by rw [hn]; rfl)
  generalize vx_MQ below (xQ G (xsi "PailRow$Fault" out.1) out.2.1 out.2.2.1 out.2.2.2.1 out.2.2.2.2.1 out.2.2.2.2.2.1 out.2.2.2.2.2.2.1 out.2.2.2.2.2.2.2.1) (xX G (xsi "PailRow$Fault" out.1) out.2.1 out.2.2.1 out.2.2.2.1 out.2.2.2.2.1 out.2.2.2.2.2.1 out.2.2.2.2.2.2.1 out.2.2.2.2.2.2.2.1) ([.ref o, .ref a1] : List Value).toArray s 12 48 (gA G) = Z at hend hthr ⊢
  generalize ([.ref o, .ref a1] : List Value).toArray = args at hts hend hthr ⊢
  unfold w7_read at hf
  obtain ⟨k0, hf⟩ := gdp_some hf
  refine lv_aload_n hx hb dX7_read_0 rfl (lv_at hl 0 rfl) ?_
  refine lv_aload_n hx hb dX7_read_1 rfl (lv_at hl 1 rfl) ?_
  obtain ⟨k1, hf⟩ := gdp_some hf
  refine g_putx (v := (some a1)) hx hb hts hown hG hR hS gPx_X7_15_5 k1 dX7_read_2 (fun H locs hR hS => ?_)
  obtain ⟨Xm2, eXm2, hf⟩ := lt_some hf
  rw [← eXm2] at hR
  refine lv_iconst (v := 0) hx hb dX7_read_5 li_0 ?_
  refine lv_istore_n (lv' := [(2, .int (0 : Int32)), (0, .ref o), (1, .ref a1)]) hx hb dX7_read_6 rfl hl (by decide) rfl (fun ls hl => ?_)
  refine lv_iconst (v := 0) hx hb dX7_read_7 li_0 ?_
  refine lv_istore_n (lv' := [(3, .int (0 : Int32)), (2, .int (0 : Int32)), (0, .ref o), (1, .ref a1)]) hx hb dX7_read_8 rfl hl (by decide) rfl (fun ls hl => ?_)
  refine lv_aload_n hx hb dX7_read_9 rfl (lv_at hl 2 rfl) ?_
  obtain ⟨a4, ha4, hf⟩ := bind_s hf
  obtain ⟨g5, hf⟩ := gdp_some hf
  obtain ⟨g6, hf⟩ := gdp_some hf
  obtain ⟨r3, hr3, hf⟩ := bind_s hf
  refine g0_cUv (rm := (4, 86)) (As := []) (rest := []) ⟨hx, hb, hml, hown, hts⟩ hG hR hS (m6_beginY l G K I J Xm2 A B Q o a4 g5 g6 ha4 (I 2 a4) (I 500 o) (I 501 o) (I 502 o) (I 503 o) (I 504 o) (I 505 o) (J 506 o) (A (a4 + 1)) rfl rfl rfl rfl rfl rfl rfl rfl rfl r3 hr3) (va_cwU (x := ⟨"PailRow$YardReader", "begin", "()V"⟩) (owner := "PailRow$Reader") 0 hts gu_X7_19_5 rfl rfl rfl rfl ⟨by decide +kernel, by decide +kernel, by decide +kernel⟩ ⟨Nat.le_of_ble_eq_true rfl, Nat.le_of_ble_eq_true rfl⟩) g5.1 rfl rfl hl.1 (Nat.le_of_ble_eq_true rfl) dX7_read_10 ⟨Nat.zero_le _, Nat.zero_le _⟩ rfl (fun H locs hR hS => ?_)
  obtain ⟨Im7, eIm7, hf⟩ := lt_some hf
  obtain ⟨Jm8, eJm8, hf⟩ := lt_some hf
  rw [← eIm7, ← eJm8] at hR
  obtain ⟨rl9, hw9, hfo9⟩ := bind_s hf
  have hx9_0 : ∀ (x9_0 : Int32 × gK × gI × gJ × gX × gI × gJ × gX × Nat × Nat × Nat), w7_read_e9_0 x9_0 = some out → ∀ (H : Heap) (locs : List Loc) (ls : Array Slot), RS G x9_0.2.1 x9_0.2.2.1 x9_0.2.2.2.1 x9_0.2.2.2.2.1 x9_0.2.2.2.2.2.1 x9_0.2.2.2.2.2.2.1 x9_0.2.2.2.2.2.2.2.1 H → va_S (gA G) s.heap H locs → lv_has ls 5 [(0, .ref o), (2, .int x9_0.1)] → W p l e ({ frames := 9, cells := 12, slots := 48, locals := 194 } : Room) s m args below meth c H locs x9_0.2.2.2.2.2.2.2.2.2.1 x9_0.2.2.2.2.2.2.2.2.2.2 Z (F0 m 163 ls []) := by
    intro x9_0 hf H locs ls hR hS hl
    unfold w7_read_e9_0 at hf
    refine lv_iload_n hx hb dX7_read_163 rfl (lv_at hl 1 rfl) ?_
    obtain ⟨c10, hf⟩ := gdp_some hf
    refine W.widen c10.1 c10.2 ?_
    obtain rfl := some_i hf
    exact hend _ rfl _ _ _ _ dX7_read_164 hR hS
  have hx9_1 : ∀ (x9_1 : (Nat ⊕ Int32) × gK × gI × gJ × gX × gI × gJ × gX × Nat), w7_read_e9_1 x9_1 = some out → ∀ (v : Int32), x9_1.1 = .inr v → ∀ (pc : Nat) (H : Heap) (locs : List Loc) (ls : Array Slot), decode cX7_read pc = .ok (.ireturn, 1) → RS G x9_1.2.1 x9_1.2.2.1 x9_1.2.2.2.1 x9_1.2.2.2.2.1 x9_1.2.2.2.2.2.1 x9_1.2.2.2.2.2.2.1 x9_1.2.2.2.2.2.2.2.1 H → va_S (gA G) s.heap H locs → W p l e ({ frames := 9, cells := 12, slots := 48, locals := 194 } : Room) s m args below meth c H locs 12 48 Z (F0 m pc ls [.int v]) := by
    intro x9_1 hf v hv pc H locs ls hd hR hS
    unfold w7_read_e9_1 at hf
    obtain rfl := some_i hf
    exact hend _ hv _ _ _ _ hd hR hS
  have hy9_1 : ∀ (x9_1 : (Nat ⊕ Int32) × gK × gI × gJ × gX × gI × gJ × gX × Nat), w7_read_e9_1 x9_1 = some out → ∀ (b : Nat), x9_1.1 = .inl b → ∀ (pc : Nat) (H : Heap) (locs : List Loc) (ls : Array Slot) (rest : List Value), x9_1.2.1 b = some (.inl 1) → RS G x9_1.2.1 x9_1.2.2.1 x9_1.2.2.2.1 x9_1.2.2.2.2.1 x9_1.2.2.2.2.2.1 x9_1.2.2.2.2.2.2.1 x9_1.2.2.2.2.2.2.2.1 H → va_S (gA G) s.heap H locs → vx_W p l e ({ frames := 9, cells := 12, slots := 48, locals := 194 } : Room) s m args below meth c H locs 12 48 Z (F0 m pc ls rest) b := by
    intro x9_1 hf b hn pc H locs ls rest hk hR hS
    unfold w7_read_e9_1 at hf
    obtain rfl := some_i hf
    exact hthr _ hn _ _ _ _ _ hk hR hS
  refine whl_walk (P := fun (s9 : Int32 × Int32 × gK × gI × gJ × gX × gI × gJ × gX × Nat × Nat × Nat) => ∀ (H : Heap) (locs : List Loc) (ls : Array Slot), RS G s9.2.2.1 s9.2.2.2.1 s9.2.2.2.2.1 s9.2.2.2.2.2.1 s9.2.2.2.2.2.2.1 s9.2.2.2.2.2.2.2.1 s9.2.2.2.2.2.2.2.2.1 H → va_S (gA G) s.heap H locs → lv_has ls 5 [(0, .ref o), (2, .int s9.1), (3, .int s9.2.1)] → W p l e ({ frames := 9, cells := 12, slots := 48, locals := 194 } : Room) s m args below meth c H locs s9.2.2.2.2.2.2.2.2.2.2.1 s9.2.2.2.2.2.2.2.2.2.2.2 Z (F0 m 13 ls [])) (r := rl9) ?_ FU _ hw9 _ _ _ hR hS (lv_sub hl [2, 1, 0] rfl)
  clear hR hS hl hf
  intro s9 o9 hf hk9 H locs ls hR hS hl
  obtain ⟨w9_2, w9_3, w9_K, w9_I, w9_J, w9_X, w9_A, w9_B, w9_Q, w9_n, w9_u, w9_v⟩ := s9
  have hf : w7_read_s9 G.2.2 (aK G) o w9_2 w9_3 w9_K w9_I w9_J w9_X w9_A w9_B w9_Q w9_n w9_u w9_v = some o9 := hf
  have hR : RS G w9_K w9_I w9_J w9_X w9_A w9_B w9_Q H := hR
  have hl : lv_has ls 5 [(0, .ref o), (2, .int w9_2), (3, .int w9_3)] := hl
  unfold w7_read_s9 at hf
  refine lv_aload_n hx hb dX7_read_13 rfl (lv_at hl 0 rfl) ?_
  obtain ⟨k11, hf⟩ := gdp_some hf
  obtain ⟨v12, ev12, hf⟩ := lt_some hf
  refine n_geti (v := v12) hx hb hts hown hG hR gFi_X7_23_5 k11 ev12.symm dX7_read_14 ?_
  refine lv_if_eq (tgt := 163) hx hb dX7_read_17 (by decide) (fun c13 => ?_) (fun c13 => ?_)
  · have hf := ite_t c13 hf
    obtain rfl := some_i hf
    replace hk9 : _ = rl9 := hk9
    subst hk9
    exact hx9_0 (w9_2, w9_K, w9_I, w9_J, w9_X, w9_A, w9_B, w9_Q, w9_n, w9_u, w9_v) (el_l hfo9) _ _ _ hR hS (lv_sub hl [0, 1] rfl)
  · have hf := ite_f c13 hf
    refine lv_aload_n hx hb dX7_read_20 rfl (lv_at hl 0 rfl) ?_
    refine lv_aload_n hx hb dX7_read_21 rfl (lv_at hl 0 rfl) ?_
    obtain ⟨x14, ex14, hf⟩ := lt_some hf
    refine g_getx hx hb hts hown hG hR gFx_X7_3_5 k11 dX7_read_22 ?_
    rw [← ex14]
    obtain ⟨a15, ha15, hf⟩ := bind_s hf
    try rw [ha15]
    obtain ⟨k16, hf⟩ := gdp_some hf
    obtain ⟨x17, ex17, hf⟩ := lt_some hf
    refine g_getx hx hb hts hown hG hR gFx_X7_27_0 k16 dX7_read_25 ?_
    rw [← ex17]
    obtain ⟨a18, ha18, hf⟩ := bind_s hf
    try rw [ha18]
    obtain ⟨c20, hf⟩ := gdp_some hf
    obtain ⟨a21, ha21, hf⟩ := bind_s hf
    obtain ⟨g22, hf⟩ := gdp_some hf
    obtain ⟨g23, hf⟩ := gdp_some hf
    obtain ⟨g24, hf⟩ := gdp_some hf
    obtain ⟨g25, hf⟩ := gdp_some hf
    obtain ⟨r19, hr19, hf⟩ := bind_s hf
    refine x0_gor (vx_runU (As := [.ref a18]) (rest := []) (b := o) ⟨hx, hb, hml, hown, hts⟩ (m6_findY l G w9_K w9_I w9_J w9_X w9_A w9_B w9_Q o a21 g22 g23 ha21 a18 10 0 g24 (by decide) g25 (w9_I 502 o) (w9_I 503 o) (w9_I 505 o) (w9_A (a21 + 1)) rfl rfl rfl rfl r19 hr19) (va_cwU (x := ⟨"PailRow$YardReader", "find", "([Ljava/lang/String;)I"⟩) (owner := "PailRow$Reader") 1 hts gu_X7_31_5 rfl rfl rfl rfl ⟨by decide +kernel, by decide +kernel, by decide +kernel⟩ ⟨Nat.le_of_ble_eq_true rfl, Nat.le_of_ble_eq_true rfl⟩) (x_preV hG hR hW hS g22.1 rfl) rfl rfl hl.1 rfl (lv_room (Nat.le_of_ble_eq_true rfl)) dX7_read_28 ⟨c20.1, c20.2⟩) hS (fun H locs hR hS => ?_)
    refine lv_istore (lv' := [(4, .int r19), (0, .ref o), (2, .int w9_2), (3, .int w9_3)]) hx hb dX7_read_31 hl (by decide) rfl (fun ls hl => ?_)
    refine lv_aload_n hx hb dX7_read_33 rfl (lv_at hl 1 rfl) ?_
    refine lv_iload hx hb dX7_read_34 (lv_at hl 0 rfl) ?_
    refine lv_iconst (v := -1) hx hb dX7_read_36 li_m1 ?_
    have hj45 : ∀ (j45_s0 : Int32), w7_read_j45 G.2.2 (aK G) o w9_2 w9_3 w9_K w9_I w9_J w9_X w9_A w9_B w9_Q w9_n w9_u w9_v r19 j45_s0 = some o9 → ∀ (H : Heap) (locs : List Loc) (ls : Array Slot), RS G w9_K w9_I w9_J w9_X w9_A w9_B w9_Q H → va_S (gA G) s.heap H locs → lv_has ls 5 [(0, .ref o), (2, .int w9_2), (3, .int w9_3), (4, .int r19)] → W p l e ({ frames := 9, cells := 12, slots := 48, locals := 194 } : Room) s m args below meth c H locs w9_u w9_v Z (F0 m 45 ls [.int j45_s0, .ref o]) := by
      intro j45_s0 hf H locs ls hR hS hl
      unfold w7_read_j45 at hf
      refine lv_iconst (v := 1) hx hb dX7_read_45 li_1 ?_
      obtain ⟨a27, ha27, hf⟩ := bind_s hf
      obtain ⟨g28, hf⟩ := gdp_some hf
      obtain ⟨g29, hf⟩ := gdp_some hf
      obtain ⟨g30, hf⟩ := gdp_some hf
      obtain ⟨r26, hr26, hf⟩ := bind_s hf
      refine x0_gou (vx_runU (As := [.int j45_s0, .int (1 : Int32)]) (rest := []) (b := o) ⟨hx, hb, hml, hown, hts⟩ (m6_mustY l G w9_K w9_I w9_J w9_X w9_A w9_B w9_Q o a27 g22 g28 g29 ha27 g30 j45_s0 (1 : Int32) (w9_I 106 (a27 + 2)) (w9_I 107 (a27 + 2)) (w9_I 502 o) rfl rfl rfl r26 hr26) (va_cwU (x := ⟨"PailRow$YardReader", "must", "(ZI)V"⟩) (owner := "PailRow$Reader") 2 hts gu_X7_35_5 rfl rfl rfl rfl ⟨by decide +kernel, by decide +kernel, by decide +kernel⟩ ⟨Nat.le_of_ble_eq_true rfl, Nat.le_of_ble_eq_true rfl⟩) (x_preV hG hR hW hS g22.1 rfl) rfl rfl hl.1 rfl (lv_room (Nat.le_of_ble_eq_true rfl)) dX7_read_46 ⟨c20.1, c20.2⟩) hS (fun H locs hnv32 hR hS => ?_) (fun v32 H locs hvv32 hR hS => ?_)
      · have hf := tr_n hnv32 hf
        obtain ⟨Im31, eIm31, hf⟩ := lt_some hf
        rw [← eIm31] at hR
        obtain ⟨k34, hf⟩ := gdp_some hf
        obtain ⟨c35, hf⟩ := gdp_some hf
        refine vx_widen c35.1 c35.2 ?_
        obtain rfl := some_i hf
        replace hk9 : _ = rl9 := hk9
        subst hk9
        exact hy9_1 ((.inl (a27 + 2)), w9_K, Im31, w9_J, w9_X, w9_A, w9_B, w9_Q, w9_n) (el_r hfo9) _ rfl _ _ _ _ _ k34 hR hS
      have hf := tr_s hvv32 hf
      obtain ⟨Im31, eIm31, hf⟩ := lt_some hf
      rw [← eIm31] at hR
      refine lv_aload_n hx hb dX7_read_49 rfl (lv_at hl 0 rfl) ?_
      refine lv_iload hx hb dX7_read_50 (lv_at hl 3 rfl) ?_
      have hj76 : ∀ (j76_s0 : Int32), w7_read_j76 G.2.2 (aK G) o w9_2 w9_3 w9_K w9_J w9_X w9_A w9_B w9_Q w9_n w9_u w9_v r19 Im31 j76_s0 = some o9 → ∀ (H : Heap) (locs : List Loc) (ls : Array Slot), RS G w9_K Im31 w9_J w9_X w9_A w9_B w9_Q H → va_S (gA G) s.heap H locs → lv_has ls 5 [(0, .ref o), (2, .int w9_2), (3, .int w9_3), (4, .int r19)] → W p l e ({ frames := 9, cells := 12, slots := 48, locals := 194 } : Room) s m args below meth c H locs w9_u w9_v Z (F0 m 76 ls [.int j76_s0, .ref o]) := by
        intro j76_s0 hf H locs ls hR hS hl
        unfold w7_read_j76 at hf
        refine lv_iconst (v := 3) hx hb dX7_read_76 li_3 ?_
        obtain ⟨a37, ha37, hf⟩ := bind_s hf
        obtain ⟨g38, hf⟩ := gdp_some hf
        obtain ⟨g39, hf⟩ := gdp_some hf
        obtain ⟨g40, hf⟩ := gdp_some hf
        obtain ⟨r36, hr36, hf⟩ := bind_s hf
        refine x0_gou (vx_runU (As := [.int j76_s0, .int (3 : Int32)]) (rest := []) (b := o) ⟨hx, hb, hml, hown, hts⟩ (m6_mustY l G w9_K Im31 w9_J w9_X w9_A w9_B w9_Q o a37 g22 g38 g39 ha37 g40 j76_s0 (3 : Int32) (Im31 106 (a37 + 2)) (Im31 107 (a37 + 2)) (Im31 502 o) rfl rfl rfl r36 hr36) (va_cwU (x := ⟨"PailRow$YardReader", "must", "(ZI)V"⟩) (owner := "PailRow$Reader") 2 hts gu_X7_35_5 rfl rfl rfl rfl ⟨by decide +kernel, by decide +kernel, by decide +kernel⟩ ⟨Nat.le_of_ble_eq_true rfl, Nat.le_of_ble_eq_true rfl⟩) (x_preV hG hR hW hS g22.1 rfl) rfl rfl hl.1 rfl (lv_room (Nat.le_of_ble_eq_true rfl)) dX7_read_77 ⟨c20.1, c20.2⟩) hS (fun H locs hnv42 hR hS => ?_) (fun v42 H locs hvv42 hR hS => ?_)
        · have hf := tr_n hnv42 hf
          obtain ⟨Im41, eIm41, hf⟩ := lt_some hf
          rw [← eIm41] at hR
          obtain ⟨k44, hf⟩ := gdp_some hf
          obtain ⟨c45, hf⟩ := gdp_some hf
          refine vx_widen c45.1 c45.2 ?_
          obtain rfl := some_i hf
          replace hk9 : _ = rl9 := hk9
          subst hk9
          exact hy9_1 ((.inl (a37 + 2)), w9_K, Im41, w9_J, w9_X, w9_A, w9_B, w9_Q, w9_n) (el_r hfo9) _ rfl _ _ _ _ _ k44 hR hS
        have hf := tr_s hvv42 hf
        obtain ⟨Im41, eIm41, hf⟩ := lt_some hf
        rw [← eIm41] at hR
        refine lv_aload_n hx hb dX7_read_80 rfl (lv_at hl 0 rfl) ?_
        refine lv_iload hx hb dX7_read_81 (lv_at hl 3 rfl) ?_
        have hj130 : ∀ (j130_s0 : Int32), w7_read_j130 G.2.2 (aK G) o w9_2 w9_3 w9_K w9_J w9_X w9_A w9_B w9_Q w9_n w9_u w9_v r19 Im41 j130_s0 = some o9 → ∀ (H : Heap) (locs : List Loc) (ls : Array Slot), RS G w9_K Im41 w9_J w9_X w9_A w9_B w9_Q H → va_S (gA G) s.heap H locs → lv_has ls 5 [(0, .ref o), (2, .int w9_2), (3, .int w9_3), (4, .int r19)] → W p l e ({ frames := 9, cells := 12, slots := 48, locals := 194 } : Room) s m args below meth c H locs w9_u w9_v Z (F0 m 130 ls [.int j130_s0, .ref o]) := by
          intro j130_s0 hf H locs ls hR hS hl
          unfold w7_read_j130 at hf
          refine lv_iconst (v := 4) hx hb dX7_read_130 li_4 ?_
          obtain ⟨a47, ha47, hf⟩ := bind_s hf
          obtain ⟨g48, hf⟩ := gdp_some hf
          obtain ⟨g49, hf⟩ := gdp_some hf
          obtain ⟨g50, hf⟩ := gdp_some hf
          obtain ⟨r46, hr46, hf⟩ := bind_s hf
          refine x0_gou (vx_runU (As := [.int j130_s0, .int (4 : Int32)]) (rest := []) (b := o) ⟨hx, hb, hml, hown, hts⟩ (m6_mustY l G w9_K Im41 w9_J w9_X w9_A w9_B w9_Q o a47 g22 g48 g49 ha47 g50 j130_s0 (4 : Int32) (Im41 106 (a47 + 2)) (Im41 107 (a47 + 2)) (Im41 502 o) rfl rfl rfl r46 hr46) (va_cwU (x := ⟨"PailRow$YardReader", "must", "(ZI)V"⟩) (owner := "PailRow$Reader") 2 hts gu_X7_35_5 rfl rfl rfl rfl ⟨by decide +kernel, by decide +kernel, by decide +kernel⟩ ⟨Nat.le_of_ble_eq_true rfl, Nat.le_of_ble_eq_true rfl⟩) (x_preV hG hR hW hS g22.1 rfl) rfl rfl hl.1 rfl (lv_room (Nat.le_of_ble_eq_true rfl)) dX7_read_131 ⟨c20.1, c20.2⟩) hS (fun H locs hnv52 hR hS => ?_) (fun v52 H locs hvv52 hR hS => ?_)
          · have hf := tr_n hnv52 hf
            obtain ⟨Im51, eIm51, hf⟩ := lt_some hf
            rw [← eIm51] at hR
            obtain ⟨k54, hf⟩ := gdp_some hf
            obtain ⟨c55, hf⟩ := gdp_some hf
            refine vx_widen c55.1 c55.2 ?_
            obtain rfl := some_i hf
            replace hk9 : _ = rl9 := hk9
            subst hk9
            exact hy9_1 ((.inl (a47 + 2)), w9_K, Im51, w9_J, w9_X, w9_A, w9_B, w9_Q, w9_n) (el_r hfo9) _ rfl _ _ _ _ _ k54 hR hS
          have hf := tr_s hvv52 hf
          obtain ⟨Im51, eIm51, hf⟩ := lt_some hf
          rw [← eIm51] at hR
          refine lv_iload_n hx hb dX7_read_134 rfl (lv_at hl 2 rfl) ?_
          refine lv_iconst (v := 1) hx hb dX7_read_135 li_1 ?_
          refine lv_iload hx hb dX7_read_136 (lv_at hl 3 rfl) ?_
          obtain ⟨v56, ev56, hf⟩ := lt_some hf
          refine n_ishl hx hb ev56 dX7_read_138 ?_
          obtain ⟨v57, ev57, hf⟩ := lt_some hf
          refine n_ior hx hb ev57 dX7_read_139 ?_
          refine lv_istore_n (lv' := [(3, .int v57), (0, .ref o), (2, .int w9_2), (4, .int r19)]) hx hb dX7_read_140 rfl hl (by decide) rfl (fun ls hl => ?_)
          refine lv_aload_n hx hb dX7_read_141 rfl (lv_at hl 1 rfl) ?_
          obtain ⟨a59, ha59, hf⟩ := bind_s hf
          obtain ⟨g60, hf⟩ := gdp_some hf
          obtain ⟨r58, hr58, hf⟩ := bind_s hf
          refine g0_cUv (rm := (3, 65)) (As := []) (rest := []) ⟨hx, hb, hml, hown, hts⟩ hG hR hS (m6_nextY l G w9_K Im51 w9_J w9_X w9_A w9_B w9_Q o a59 g22 g60 ha59 (Im51 2 a59) (Im51 500 o) (Im51 501 o) (Im51 502 o) (Im51 503 o) (Im51 504 o) (Im51 505 o) (w9_J 506 o) (w9_A (a59 + 1)) rfl rfl rfl rfl rfl rfl rfl rfl rfl r58 hr58) (va_cwU (x := ⟨"PailRow$YardReader", "next", "()V"⟩) (owner := "PailRow$Reader") 0 hts gu_X7_47_5 rfl rfl rfl rfl ⟨by decide +kernel, by decide +kernel, by decide +kernel⟩ ⟨Nat.le_of_ble_eq_true rfl, Nat.le_of_ble_eq_true rfl⟩) g22.1 rfl rfl hl.1 (Nat.le_of_ble_eq_true rfl) dX7_read_142 ⟨c20.1, c20.2⟩ rfl (fun H locs hR hS => ?_)
          obtain ⟨Im61, eIm61, hf⟩ := lt_some hf
          obtain ⟨Jm62, eJm62, hf⟩ := lt_some hf
          rw [← eIm61, ← eJm62] at hR
          refine lv_aload_n hx hb dX7_read_145 rfl (lv_at hl 1 rfl) ?_
          refine lv_iload hx hb dX7_read_146 (lv_at hl 3 rfl) ?_
          obtain ⟨c64, hf⟩ := gdp_some hf
          obtain ⟨r63, hr63, hf⟩ := bind_s hf
          refine x_gosu (vx_runV (As := [.int r19]) (rest := []) (b := o) ⟨hx, hb, hml, hown, hts⟩ (m7_line_w l G w9_K Im61 Jm62 w9_X w9_A w9_B w9_Q w9_n o r19 r63 hr63) ⟨callB_of 1 hts (lw_meth q952) rfl rfl rfl (hts _ q111) (hts _ q949) (by decide +kernel) ⟨Nat.le_of_ble_eq_true rfl, Nat.le_of_ble_eq_true rfl⟩, hts _ q951, hts _ qs3⟩ (x_preV hG hR hW hS k11 rfl) rfl rfl hl.1 rfl (lv_room (Nat.le_of_ble_eq_true rfl)) dX7_read_148 ⟨c64.1, c64.2⟩) hS (fun b66 H locs hnv65 hR hS => ?_) (fun v65 H locs hvv65 hR hS => ?_)
          · have hf := trs_l hnv65 hf
            obtain ⟨k67, hf⟩ := gdp_some hf
            obtain ⟨c68, hf⟩ := gdp_some hf
            refine vx_widen c68.1 c68.2 ?_
            obtain rfl := some_i hf
            replace hk9 : _ = rl9 := hk9
            subst hk9
            exact hy9_1 ((.inl b66), r63.2.1, r63.2.2.1, r63.2.2.2.1, r63.2.2.2.2.1, r63.2.2.2.2.2.1, r63.2.2.2.2.2.2.1, r63.2.2.2.2.2.2.2.1, r63.2.2.2.2.2.2.2.2) (el_r hfo9) _ rfl _ _ _ _ _ k67 hR hS
          have hf := trs_r hvv65 hf
          refine lv_aload_n hx hb dX7_read_151 rfl (lv_at hl 1 rfl) ?_
          refine lv_bipush (v := 59) hx hb dX7_read_152 lb_59 ?_
          obtain ⟨c70, hf⟩ := gdp_some hf
          obtain ⟨a71, ha71, hf⟩ := bind_s hf
          obtain ⟨g72, hf⟩ := gdp_some hf
          obtain ⟨g73, hf⟩ := gdp_some hf
          obtain ⟨g74, hf⟩ := gdp_some hf
          obtain ⟨g75, hf⟩ := gdp_some hf
          obtain ⟨r69, hr69, hf⟩ := bind_s hf
          refine x0_gou (vx_runU (As := [.int (59 : Int32)]) (rest := []) (b := o) ⟨hx, hb, hml, hown, hts⟩ (m6_signY l G r63.2.1 r63.2.2.1 r63.2.2.2.1 r63.2.2.2.2.1 r63.2.2.2.2.2.1 r63.2.2.2.2.2.2.1 r63.2.2.2.2.2.2.2.1 o a71 g72 g73 g74 ha71 g75 (59 : Int32) (r63.2.2.1 2 a71) (r63.2.2.1 106 (a71 + 2)) (r63.2.2.1 107 (a71 + 2)) (r63.2.2.1 500 o) (r63.2.2.1 501 o) (r63.2.2.1 502 o) (r63.2.2.1 503 o) (r63.2.2.1 504 o) (r63.2.2.1 505 o) (r63.2.2.2.1 506 o) (r63.2.2.2.2.2.1 (a71 + 1)) rfl rfl rfl rfl rfl rfl rfl rfl rfl rfl rfl r69 hr69) (va_cwU (x := ⟨"PailRow$YardReader", "sign", "(I)V"⟩) (owner := "PailRow$Reader") 1 hts gu_X7_54_5 rfl rfl rfl rfl ⟨by decide +kernel, by decide +kernel, by decide +kernel⟩ ⟨Nat.le_of_ble_eq_true rfl, Nat.le_of_ble_eq_true rfl⟩) (x_preV hG hR hW hS g72.1 rfl) rfl rfl hl.1 rfl (lv_room (Nat.le_of_ble_eq_true rfl)) dX7_read_154 ⟨c70.1, c70.2⟩) hS (fun H locs hnv78 hR hS => ?_) (fun v78 H locs hvv78 hR hS => ?_)
          · have hf := tr_n hnv78 hf
            obtain ⟨Im76, eIm76, hf⟩ := lt_some hf
            obtain ⟨Jm77, eJm77, hf⟩ := lt_some hf
            rw [← eIm76, ← eJm77] at hR
            obtain ⟨k80, hf⟩ := gdp_some hf
            obtain ⟨c81, hf⟩ := gdp_some hf
            refine vx_widen c81.1 c81.2 ?_
            obtain rfl := some_i hf
            replace hk9 : _ = rl9 := hk9
            subst hk9
            exact hy9_1 ((.inl (a71 + 2)), r63.2.1, Im76, Jm77, r63.2.2.2.2.1, r63.2.2.2.2.2.1, r63.2.2.2.2.2.2.1, r63.2.2.2.2.2.2.2.1, r63.2.2.2.2.2.2.2.2) (el_r hfo9) _ rfl _ _ _ _ _ k80 hR hS
          have hf := tr_s hvv78 hf
          obtain ⟨Im76, eIm76, hf⟩ := lt_some hf
          obtain ⟨Jm77, eJm77, hf⟩ := lt_some hf
          rw [← eIm76, ← eJm77] at hR
          obtain ⟨v82, ev82, hf⟩ := lt_some hf
          refine lv_iinc (k := 2) (v := v82) (lv' := [(2, .int v82), (3, .int v57), (0, .ref o), (4, .int r19)]) hx hb dX7_read_157 hl rfl (by rw [ev82]; rfl) (by decide) rfl (fun ls hl => ?_)
          refine lv_goto (tgt := 13) hx hb dX7_read_160 (by decide) ?_
          obtain rfl := some_i hf
          exact hk9 _ _ _ hR hS (lv_sub hl [2, 0, 1] rfl)
        refine lv_if_ne (tgt := 106) hx hb dX7_read_83 (by decide) (fun c83 => ?_) (fun c83 => ?_)
        · have hf := ite_f c83 hf
          refine lv_iload hx hb dX7_read_106 (lv_at hl 3 rfl) ?_
          refine lv_bipush (v := 8) hx hb dX7_read_108 lb_8 ?_
          have hj125 : ∀ (_ : Unit), w7_read_j125 G.2.2 (aK G) o w9_2 w9_3 w9_K w9_J w9_X w9_A w9_B w9_Q w9_n w9_u w9_v r19 Im41 = some o9 → ∀ (H : Heap) (locs : List Loc) (ls : Array Slot), RS G w9_K Im41 w9_J w9_X w9_A w9_B w9_Q H → va_S (gA G) s.heap H locs → lv_has ls 5 [(0, .ref o), (2, .int w9_2), (3, .int w9_3), (4, .int r19)] → W p l e ({ frames := 9, cells := 12, slots := 48, locals := 194 } : Room) s m args below meth c H locs w9_u w9_v Z (F0 m 125 ls [.ref o]) := by
            intro _ hf H locs ls hR hS hl
            unfold w7_read_j125 at hf
            refine lv_iconst (v := 1) hx hb dX7_read_125 li_1 ?_
            refine lv_goto (tgt := 130) hx hb dX7_read_126 (by decide) ?_
            exact hj130 (1 : Int32) hf _ _ _ hR hS (lv_sub hl [0, 1, 2, 3] rfl)
          refine lv_icmp_ne (tgt := 125) hx hb dX7_read_110 (by decide) (fun c84 => ?_) (fun c84 => ?_)
          · have hf := ite_f c84 hf
            exact hj125 () hf _ _ _ hR hS (lv_sub hl [0, 1, 2, 3] rfl)
          · have hf := ite_t c84 hf
            refine lv_aload_n hx hb dX7_read_113 rfl (lv_at hl 0 rfl) ?_
            obtain ⟨x85, ex85, hf⟩ := lt_some hf
            refine g_getx hx hb hts hown hG hR gFx_X7_15_5 k11 dX7_read_114 ?_
            rw [← ex85]
            obtain ⟨a86, ha86, hf⟩ := bind_s hf
            try rw [ha86]
            obtain ⟨k87, hf⟩ := gdp_some hf
            obtain ⟨v88, ev88, hf⟩ := lt_some hf
            refine n_geti (v := v88) hx hb hts hown hG hR gFi_X7_44_3 k87 ev88.symm dX7_read_117 ?_
            refine lv_bipush (v := 8) hx hb dX7_read_120 lb_8 ?_
            refine lv_icmp_ge (tgt := 129) hx hb dX7_read_122 (by decide) (fun c89 => ?_) (fun c89 => ?_)
            · have hf := ite_t c89 hf
              refine lv_iconst (v := 0) hx hb dX7_read_129 li_0 ?_
              exact hj130 (0 : Int32) hf _ _ _ hR hS (lv_sub hl [0, 1, 2, 3] rfl)
            · have hf := ite_f c89 hf
              exact hj125 () hf _ _ _ hR hS (lv_sub hl [0, 1, 2, 3] rfl)
        · have hf := ite_t c83 hf
          refine lv_aload_n hx hb dX7_read_86 rfl (lv_at hl 0 rfl) ?_
          obtain ⟨x90, ex90, hf⟩ := lt_some hf
          refine g_getx hx hb hts hown hG hR gFx_X7_15_5 k11 dX7_read_87 ?_
          rw [← ex90]
          obtain ⟨a91, ha91, hf⟩ := bind_s hf
          try rw [ha91]
          obtain ⟨k92, hf⟩ := gdp_some hf
          obtain ⟨v93, ev93, hf⟩ := lt_some hf
          refine n_geti (v := v93) hx hb hts hown hG hR gFi_X7_39_3 k92 ev93.symm dX7_read_90 ?_
          refine lv_bipush (v := 12) hx hb dX7_read_93 lb_12 ?_
          refine lv_icmp_ge (tgt := 102) hx hb dX7_read_95 (by decide) (fun c94 => ?_) (fun c94 => ?_)
          · have hf := ite_t c94 hf
            refine lv_iconst (v := 0) hx hb dX7_read_102 li_0 ?_
            refine lv_goto (tgt := 130) hx hb dX7_read_103 (by decide) ?_
            exact hj130 (0 : Int32) hf _ _ _ hR hS (lv_sub hl [0, 1, 2, 3] rfl)
          · have hf := ite_f c94 hf
            refine lv_iconst (v := 1) hx hb dX7_read_98 li_1 ?_
            refine lv_goto (tgt := 130) hx hb dX7_read_99 (by decide) ?_
            exact hj130 (1 : Int32) hf _ _ _ hR hS (lv_sub hl [0, 1, 2, 3] rfl)
      have hj71 : ∀ (_ : Unit), w7_read_j71 G.2.2 (aK G) o w9_2 w9_3 w9_K w9_J w9_X w9_A w9_B w9_Q w9_n w9_u w9_v r19 Im31 = some o9 → ∀ (H : Heap) (locs : List Loc) (ls : Array Slot), RS G w9_K Im31 w9_J w9_X w9_A w9_B w9_Q H → va_S (gA G) s.heap H locs → lv_has ls 5 [(0, .ref o), (2, .int w9_2), (3, .int w9_3), (4, .int r19)] → W p l e ({ frames := 9, cells := 12, slots := 48, locals := 194 } : Room) s m args below meth c H locs w9_u w9_v Z (F0 m 71 ls [.ref o]) := by
        intro _ hf H locs ls hR hS hl
        unfold w7_read_j71 at hf
        refine lv_iconst (v := 1) hx hb dX7_read_71 li_1 ?_
        refine lv_goto (tgt := 76) hx hb dX7_read_72 (by decide) ?_
        exact hj76 (1 : Int32) hf _ _ _ hR hS (lv_sub hl [0, 1, 2, 3] rfl)
      refine lv_if_eq (tgt := 71) hx hb dX7_read_52 (by decide) (fun c95 => ?_) (fun c95 => ?_)
      · have hf := ite_t c95 hf
        exact hj71 () hf _ _ _ hR hS (lv_sub hl [0, 1, 2, 3] rfl)
      · have hf := ite_f c95 hf
        refine lv_iload hx hb dX7_read_55 (lv_at hl 3 rfl) ?_
        refine lv_bipush (v := 7) hx hb dX7_read_57 lb_7 ?_
        refine lv_icmp_gt (tgt := 71) hx hb dX7_read_59 (by decide) (fun c96 => ?_) (fun c96 => ?_)
        · have hf := ite_t c96 hf
          exact hj71 () hf _ _ _ hR hS (lv_sub hl [0, 1, 2, 3] rfl)
        · have hf := ite_f c96 hf
          refine lv_iload_n hx hb dX7_read_62 rfl (lv_at hl 2 rfl) ?_
          refine lv_iload hx hb dX7_read_63 (lv_at hl 3 rfl) ?_
          obtain ⟨v97, ev97, hf⟩ := lt_some hf
          refine n_ishr hx hb ev97 dX7_read_65 ?_
          refine lv_iconst (v := 1) hx hb dX7_read_66 li_1 ?_
          obtain ⟨v98, ev98, hf⟩ := lt_some hf
          refine n_iand hx hb ev98 dX7_read_67 ?_
          refine lv_if_ne (tgt := 75) hx hb dX7_read_68 (by decide) (fun c99 => ?_) (fun c99 => ?_)
          · have hf := ite_f c99 hf
            refine lv_iconst (v := 0) hx hb dX7_read_75 li_0 ?_
            exact hj76 (0 : Int32) hf _ _ _ hR hS (lv_sub hl [0, 1, 2, 3] rfl)
          · have hf := ite_t c99 hf
            exact hj71 () hf _ _ _ hR hS (lv_sub hl [0, 1, 2, 3] rfl)
    refine lv_icmp_eq (tgt := 44) hx hb dX7_read_37 (by decide) (fun c100 => ?_) (fun c100 => ?_)
    · have hf := ite_t c100 hf
      refine lv_iconst (v := 0) hx hb dX7_read_44 li_0 ?_
      exact hj45 (0 : Int32) hf _ _ _ hR hS (lv_sub hl [1, 2, 3, 0] rfl)
    · have hf := ite_f c100 hf
      refine lv_iconst (v := 1) hx hb dX7_read_40 li_1 ?_
      refine lv_goto (tgt := 45) hx hb dX7_read_41 (by decide) ?_
      exact hj45 (1 : Int32) hf _ _ _ hR hS (lv_sub hl [1, 2, 3, 0] rfl)
noncomputable def w13_counts_j60 (zz : Nat) (adS : Nat → Nat) (o : Nat) (p1 : Int32) (K : gK) (n : Nat) (j33_X : gX) (j33_A : gI) (j33_B : gJ) (j33_Q : gX) (v17 : Int32) (Im21 : gI) (Jm22 : gJ) (j60_s0 : Int32) : Option ((Nat ⊕ Nat) × gK × gI × gJ × gX × gI × gJ × gX × Nat) :=
  (j33_X 1007 o).bind fun a25 =>
  gdp (Sh K j33_X a25 0 rows0) <|
  gdp (K (a25 + 2) = some (.inl 1)) <|
  gdp (j33_X 4 a25 = some (a25 + 2)) <|
  (f6_mustS j60_s0 (1 : Int32) (Im21 106 (a25 + 2)) (Im21 107 (a25 + 2)) (Im21 1002 o)).bind fun r24 =>
  tr r24.1 (
    lt ((ov Im21 [(106, (a25 + 2), r24.2.1), (107, (a25 + 2), r24.2.2)])) fun Im29 =>
    gdp (K (a25 + 2) = some (.inl 1)) <|
    gdp (0 ≤ 1 ∧ 0 ≤ 3) <|
    some ((.inl (a25 + 2)), K, Im29, Jm22, j33_X, j33_A, j33_B, j33_Q, n)
    ) fun v30 =>
  lt ((ov Im21 [(106, (a25 + 2), r24.2.1), (107, (a25 + 2), r24.2.2)])) fun Im29 =>
  lt (Im29 1004 o) fun v34 =>
  (j33_X 1007 o).bind fun a36 =>
  gdp (Sh K j33_X a36 0 rows0) <|
  (f6_nextS (Im29 2 a36) (Im29 1000 o) (Im29 1001 o) (Im29 1002 o) (Im29 1003 o) (Im29 1004 o) (Im29 1005 o) (Jm22 1006 o) (j33_A (a36 + 1))).bind fun r35 =>
  lt ((ov Im29 [(1001, o, r35.1), (1002, o, r35.2.1), (1003, o, r35.2.2.1), (1004, o, r35.2.2.2.1), (1005, o, r35.2.2.2.2.1)])) fun Im38 =>
  lt ((ov Jm22 [(1006, o, r35.2.2.2.2.2)])) fun Jm39 =>
  gdp (freshz zz K n) <|
  gdp (0 + 1 ≤ 1 ∧ 0 + 3 ≤ 3) <|
  lt (a_up K n (some (.inl 15))) fun Km42 =>
  lt (zc Im38 n 0) fun Im43 =>
  lt (zc Jm39 n 0) fun Jm44 =>
  lt (zc j33_X n none) fun Xm45 =>
  lt (n + 1) fun n46 =>
  lt (0 + 1) fun u47 =>
  lt (0 + 3) fun v48 =>
  gdp (u47 ≤ 1 ∧ v48 ≤ 3) <|
  (w19_init zz adS n p1 v17 v34 Km42 Im43 Jm44 Xm45 j33_A j33_B j33_Q n46).bind fun r49 =>
  gdp (u47 ≤ 1 ∧ v48 ≤ 3) <|
  some ((.inr n), r49.1, r49.2.1, r49.2.2.1, r49.2.2.2.1, r49.2.2.2.2.1, r49.2.2.2.2.2.1, r49.2.2.2.2.2.2.1, r49.2.2.2.2.2.2.2)

noncomputable def w13_counts_j33 (zz : Nat) (adS : Nat → Nat) (o : Nat) (p1 : Int32) (K : gK) (n : Nat) (j33_s0 : Int32) (j33_I : gI) (j33_J : gJ) (j33_X : gX) (j33_A : gI) (j33_B : gJ) (j33_Q : gX) : Option ((Nat ⊕ Nat) × gK × gI × gJ × gX × gI × gJ × gX × Nat) :=
  (j33_X 1007 o).bind fun a6 =>
  gdp (Sh K j33_X o 10 rows10) <|
  gdp (Sh K j33_X a6 0 rows0) <|
  gdp (K (a6 + 2) = some (.inl 1)) <|
  gdp (j33_X 4 a6 = some (a6 + 2)) <|
  (f6_mustS j33_s0 (1 : Int32) (j33_I 106 (a6 + 2)) (j33_I 107 (a6 + 2)) (j33_I 1002 o)).bind fun r5 =>
  tr r5.1 (
    lt ((ov j33_I [(106, (a6 + 2), r5.2.1), (107, (a6 + 2), r5.2.2)])) fun Im11 =>
    gdp (K (a6 + 2) = some (.inl 1)) <|
    gdp (0 ≤ 1 ∧ 0 ≤ 3) <|
    some ((.inl (a6 + 2)), K, Im11, j33_J, j33_X, j33_A, j33_B, j33_Q, n)
    ) fun v12 =>
  lt ((ov j33_I [(106, (a6 + 2), r5.2.1), (107, (a6 + 2), r5.2.2)])) fun Im11 =>
  gdp (K o = some (.inl 10)) <|
  lt (Im11 1004 o) fun v17 =>
  (j33_X 1007 o).bind fun a19 =>
  gdp (Sh K j33_X a19 0 rows0) <|
  (f6_nextS (Im11 2 a19) (Im11 1000 o) (Im11 1001 o) (Im11 1002 o) (Im11 1003 o) (Im11 1004 o) (Im11 1005 o) (j33_J 1006 o) (j33_A (a19 + 1))).bind fun r18 =>
  lt ((ov Im11 [(1001, o, r18.1), (1002, o, r18.2.1), (1003, o, r18.2.2.1), (1004, o, r18.2.2.2.1), (1005, o, r18.2.2.2.2.1)])) fun Im21 =>
  lt ((ov j33_J [(1006, o, r18.2.2.2.2.2)])) fun Jm22 =>
  lt (Im21 1003 o) fun v23 =>
  if v23 = (2 : Int32) then
    w13_counts_j60 zz adS o p1 K n j33_X j33_A j33_B j33_Q v17 Im21 Jm22 (1 : Int32)
  else
    w13_counts_j60 zz adS o p1 K n j33_X j33_A j33_B j33_Q v17 Im21 Jm22 (0 : Int32)

noncomputable def w13_counts_j28 (zz : Nat) (adS : Nat → Nat) (o : Nat) (p1 : Int32) (K : gK) (n : Nat) (j28_I : gI) (j28_J : gJ) (j28_X : gX) (j28_A : gI) (j28_B : gJ) (j28_Q : gX) : Option ((Nat ⊕ Nat) × gK × gI × gJ × gX × gI × gJ × gX × Nat) :=
  w13_counts_j33 zz adS o p1 K n (1 : Int32) j28_I j28_J j28_X j28_A j28_B j28_Q

noncomputable def w13_counts (zz : Nat) (adS : Nat → Nat) (o : Nat) (p1 : Int32) (K : gK) (I : gI) (J : gJ) (X : gX) (A : gI) (B : gJ) (Q : gX) (n : Nat) : Option ((Nat ⊕ Nat) × gK × gI × gJ × gX × gI × gJ × gX × Nat) :=
  gdp (∃ a, K a ≠ none) <|
  (X 1007 o).bind fun a2 =>
  gdp (Sh K X o 10 rows10) <|
  gdp (Sh K X a2 0 rows0) <|
  (f6_is_2S (60 : Int32) (I 1003 o) (I 1004 o)).bind fun r1 =>
  if r1 = 0 then
    (X 1007 o).bind fun a55 =>
    gdp (Sh K X a55 0 rows0) <|
    (f6_is_2S (61 : Int32) (I 1003 o) (I 1004 o)).bind fun r54 =>
    if r54 = 0 then
      (X 1007 o).bind fun a59 =>
      gdp (Sh K X a59 0 rows0) <|
      (f6_is_2S (62 : Int32) (I 1003 o) (I 1004 o)).bind fun r58 =>
      if r58 = 0 then
        w13_counts_j33 zz adS o p1 K n (0 : Int32) I J X A B Q
      else
        w13_counts_j28 zz adS o p1 K n I J X A B Q
    else
      w13_counts_j28 zz adS o p1 K n I J X A B Q
  else
    w13_counts_j28 zz adS o p1 K n I J X A B Q
set_option maxHeartbeats 4000000 in
theorem m13_counts_w (l : Launch) (G : gG) (K : gK) (I : gI) (J : gJ) (X : gX) (A : gI) (B : gJ) (Q : gX) (n : Nat) (o : Nat) (p1 : Int32) (out : (Nat ⊕ Nat) × gK × gI × gJ × gX × gI × gJ × gX × Nat) (hf : w13_counts G.2.2 (aK G) o p1 K I J X A B Q n = some out) : GMetX l yX13_counts cX13_counts 4 (some (.object "PailRow$Cond")) (4) (86) G [.ref o, .int p1] K I J X A B Q (xsq "PailRow$Fault" out.1) out.2.1 out.2.2.1 out.2.2.2.1 out.2.2.2.2.1 out.2.2.2.2.2.1 out.2.2.2.2.2.2.1 out.2.2.2.2.2.2.2.1 1 3 := by
  refine GMetX.of (y := yX13_counts) rfl (Nat.le_of_ble_eq_true rfl) (la := [(0, .ref o), (1, .int p1)]) rfl ?_
  intro p e s m below meth c ls hx hb hr hml hlocks hts hown hname ht hG hR hW hl
  have hown : s.vm.findClass RX13 = some m.cls := hown
  have hS : va_S (gA G) s.heap s.heap [] := va_S.rf
  have hz : (∃ a, K a ≠ none) → G.2.2 ≤ s.heap.size := fun ⟨a, h⟩ => Nat.le_of_lt (Nat.lt_of_le_of_lt (hR.ge h) (hR.lt h))
  have hend : ∀ (v : Nat), out.1 = .inr v → ∀ (pc : Nat) (H : Heap) (locs : List Loc) (ls : Array Slot), decode cX13_counts pc = .ok (.areturn, 1) → RS G out.2.1 out.2.2.1 out.2.2.2.1 out.2.2.2.2.1 out.2.2.2.2.2.1 out.2.2.2.2.2.2.1 out.2.2.2.2.2.2.2.1 H → va_S (gA G) s.heap H locs → W p l e ({ frames := 4, cells := 1, slots := 3, locals := 86 } : Room) s m ([.ref o, .int p1] : List Value).toArray below meth c H locs 1 3 (vx_MQ below (xQ G (xsq "PailRow$Fault" out.1) out.2.1 out.2.2.1 out.2.2.2.1 out.2.2.2.2.1 out.2.2.2.2.2.1 out.2.2.2.2.2.2.1 out.2.2.2.2.2.2.2.1) (xX G (xsq "PailRow$Fault" out.1) out.2.1 out.2.2.1 out.2.2.2.1 out.2.2.2.2.1 out.2.2.2.2.2.1 out.2.2.2.2.2.2.1 out.2.2.2.2.2.2.2.1) ([.ref o, .int p1] : List Value).toArray s 1 3 (gA G)) (F0 m pc ls [.ref v]) := fun v hv pc H locs ls hd hR hS => x_aret (v := some v) hx hb hr (Or.inl ⟨_, rfl⟩) hlocks hG hR hS (by rw [hv]; rfl) hd
  have hthr : ∀ (b : Nat), out.1 = .inl b → ∀ (pc : Nat) (H : Heap) (locs : List Loc) (ls : Array Slot) (rest : List Value), out.2.1 b = some (.inl 1) → RS G out.2.1 out.2.2.1 out.2.2.2.1 out.2.2.2.2.1 out.2.2.2.2.2.1 out.2.2.2.2.2.2.1 out.2.2.2.2.2.2.2.1 H → va_S (gA G) s.heap H locs → vx_W p l e ({ frames := 4, cells := 1, slots := 3, locals := 86 } : Room) s m ([.ref o, .int p1] : List Value).toArray below meth c H locs 1 3 (vx_MQ below (xQ G (xsq "PailRow$Fault" out.1) out.2.1 out.2.2.1 out.2.2.2.1 out.2.2.2.2.1 out.2.2.2.2.2.1 out.2.2.2.2.2.2.1 out.2.2.2.2.2.2.2.1) (xX G (xsq "PailRow$Fault" out.1) out.2.1 out.2.2.1 out.2.2.2.1 out.2.2.2.2.1 out.2.2.2.2.2.1 out.2.2.2.2.2.2.1 out.2.2.2.2.2.2.2.1) ([.ref o, .int p1] : List Value).toArray s 1 3 (gA G)) (F0 m pc ls rest) b := fun b hn pc H locs ls rest hk hR hS => x_out (ci := 1) ht hlocks hG hR hS hk rfl (by rw [hn]; rfl)
  generalize vx_MQ below (xQ G (xsq "PailRow$Fault" out.1) out.2.1 out.2.2.1 out.2.2.2.1 out.2.2.2.2.1 out.2.2.2.2.2.1 out.2.2.2.2.2.2.1 out.2.2.2.2.2.2.2.1) (xX G (xsq "PailRow$Fault" out.1) out.2.1 out.2.2.1 out.2.2.2.1 out.2.2.2.2.1 out.2.2.2.2.2.1 out.2.2.2.2.2.2.1 out.2.2.2.2.2.2.2.1) ([.ref o, .int p1] : List Value).toArray s 1 3 (gA G) = Z at hend hthr ⊢
  generalize ([.ref o, .int p1] : List Value).toArray = args at hts hend hthr ⊢
  unfold w13_counts at hf
  obtain ⟨k0, hf⟩ := gdp_some hf
  refine lv_aload_n hx hb dX13_counts_0 rfl (lv_at hl 0 rfl) ?_
  refine lv_aload_n hx hb dX13_counts_1 rfl (lv_at hl 0 rfl) ?_
  refine lv_bipush (v := 60) hx hb dX13_counts_2 lb_60 ?_
  obtain ⟨a2, ha2, hf⟩ := bind_s hf
  obtain ⟨g3, hf⟩ := gdp_some hf
  obtain ⟨g4, hf⟩ := gdp_some hf
  obtain ⟨r1, hr1, hf⟩ := bind_s hf
  refine g0_cU (rm := (0, 0)) (As := [.int (60 : Int32)]) (rest := [.ref o]) ⟨hx, hb, hml, hown, hts⟩ hG hR hS (m6_is_2S l G K I J X A B Q o a2 g3 g4 ha2 (60 : Int32) (I 1003 o) (I 1004 o) rfl rfl r1 hr1) (va_cwU (x := ⟨"PailRow$SentenceReader", "is", "(I)Z"⟩) (owner := "PailRow$Reader") 1 hts gu_X13_77_10 rfl rfl rfl rfl ⟨by decide +kernel, by decide +kernel, by decide +kernel⟩ ⟨Nat.le_of_ble_eq_true rfl, Nat.le_of_ble_eq_true rfl⟩) g3.1 rfl rfl hl.1 (Nat.le_of_ble_eq_true rfl) dX13_counts_4 ⟨Nat.zero_le _, Nat.zero_le _⟩ rfl (fun H locs hR hS => ?_)
  have hj33 : ∀ (j33_s0 : Int32) (j33_I : gI) (j33_J : gJ) (j33_X : gX) (j33_A : gI) (j33_B : gJ) (j33_Q : gX), w13_counts_j33 G.2.2 (aK G) o p1 K n j33_s0 j33_I j33_J j33_X j33_A j33_B j33_Q = some out → ∀ (H : Heap) (locs : List Loc) (ls : Array Slot), RS G K j33_I j33_J j33_X j33_A j33_B j33_Q H → va_S (gA G) s.heap H locs → lv_has ls 4 [(0, .ref o), (1, .int p1)] → W p l e ({ frames := 4, cells := 1, slots := 3, locals := 86 } : Room) s m args below meth c H locs 0 0 Z (F0 m 33 ls [.int j33_s0, .ref o]) := by
    intro j33_s0 j33_I j33_J j33_X j33_A j33_B j33_Q hf H locs ls hR hS hl
    unfold w13_counts_j33 at hf
    refine lv_iconst (v := 1) hx hb dX13_counts_33 li_1 ?_
    obtain ⟨a6, ha6, hf⟩ := bind_s hf
    obtain ⟨g7, hf⟩ := gdp_some hf
    obtain ⟨g8, hf⟩ := gdp_some hf
    obtain ⟨g9, hf⟩ := gdp_some hf
    obtain ⟨g10, hf⟩ := gdp_some hf
    obtain ⟨r5, hr5, hf⟩ := bind_s hf
    refine x0_gou (vx_runU (As := [.int j33_s0, .int (1 : Int32)]) (rest := []) (b := o) ⟨hx, hb, hml, hown, hts⟩ (m6_mustS l G K j33_I j33_J j33_X j33_A j33_B j33_Q o a6 g7 g8 g9 ha6 g10 j33_s0 (1 : Int32) (j33_I 106 (a6 + 2)) (j33_I 107 (a6 + 2)) (j33_I 1002 o) rfl rfl rfl r5 hr5) (va_cwU (x := ⟨"PailRow$SentenceReader", "must", "(ZI)V"⟩) (owner := "PailRow$Reader") 2 hts gu_X13_46_10 rfl rfl rfl rfl ⟨by decide +kernel, by decide +kernel, by decide +kernel⟩ ⟨Nat.le_of_ble_eq_true rfl, Nat.le_of_ble_eq_true rfl⟩) (x_preV hG hR hW hS g7.1 rfl) rfl rfl hl.1 rfl (lv_room (Nat.le_of_ble_eq_true rfl)) dX13_counts_34 ⟨Nat.zero_le _, Nat.zero_le _⟩) hS (fun H locs hnv12 hR hS => ?_) (fun v12 H locs hvv12 hR hS => ?_)
    · have hf := tr_n hnv12 hf
      obtain ⟨Im11, eIm11, hf⟩ := lt_some hf
      rw [← eIm11] at hR
      obtain ⟨k14, hf⟩ := gdp_some hf
      obtain ⟨c15, hf⟩ := gdp_some hf
      refine vx_widen c15.1 c15.2 ?_
      obtain rfl := some_i hf
      exact hthr _ rfl _ _ _ _ _ k14 hR hS
    have hf := tr_s hvv12 hf
    obtain ⟨Im11, eIm11, hf⟩ := lt_some hf
    rw [← eIm11] at hR
    refine lv_aload_n hx hb dX13_counts_37 rfl (lv_at hl 0 rfl) ?_
    obtain ⟨k16, hf⟩ := gdp_some hf
    obtain ⟨v17, ev17, hf⟩ := lt_some hf
    refine n_geti (v := v17) hx hb hts hown hG hR gFi_X13_101_10 k16 ev17.symm dX13_counts_38 ?_
    refine lv_istore_n (lv' := [(2, .int v17), (0, .ref o), (1, .int p1)]) hx hb dX13_counts_41 rfl hl (by decide) rfl (fun ls hl => ?_)
    refine lv_aload_n hx hb dX13_counts_42 rfl (lv_at hl 1 rfl) ?_
    obtain ⟨a19, ha19, hf⟩ := bind_s hf
    obtain ⟨g20, hf⟩ := gdp_some hf
    obtain ⟨r18, hr18, hf⟩ := bind_s hf
    refine g0_cUv (rm := (3, 65)) (As := []) (rest := []) ⟨hx, hb, hml, hown, hts⟩ hG hR hS (m6_nextS l G K Im11 j33_J j33_X j33_A j33_B j33_Q o a19 g7 g20 ha19 (Im11 2 a19) (Im11 1000 o) (Im11 1001 o) (Im11 1002 o) (Im11 1003 o) (Im11 1004 o) (Im11 1005 o) (j33_J 1006 o) (j33_A (a19 + 1)) rfl rfl rfl rfl rfl rfl rfl rfl rfl r18 hr18) (va_cwU (x := ⟨"PailRow$SentenceReader", "next", "()V"⟩) (owner := "PailRow$Reader") 0 hts gu_X13_59_10 rfl rfl rfl rfl ⟨by decide +kernel, by decide +kernel, by decide +kernel⟩ ⟨Nat.le_of_ble_eq_true rfl, Nat.le_of_ble_eq_true rfl⟩) g7.1 rfl rfl hl.1 (Nat.le_of_ble_eq_true rfl) dX13_counts_43 ⟨Nat.zero_le _, Nat.zero_le _⟩ rfl (fun H locs hR hS => ?_)
    obtain ⟨Im21, eIm21, hf⟩ := lt_some hf
    obtain ⟨Jm22, eJm22, hf⟩ := lt_some hf
    rw [← eIm21, ← eJm22] at hR
    refine lv_aload_n hx hb dX13_counts_46 rfl (lv_at hl 1 rfl) ?_
    refine lv_aload_n hx hb dX13_counts_47 rfl (lv_at hl 1 rfl) ?_
    obtain ⟨v23, ev23, hf⟩ := lt_some hf
    refine n_geti (v := v23) hx hb hts hown hG hR gFi_X13_43_10 k16 ev23.symm dX13_counts_48 ?_
    refine lv_iconst (v := 2) hx hb dX13_counts_51 li_2 ?_
    have hj60 : ∀ (j60_s0 : Int32), w13_counts_j60 G.2.2 (aK G) o p1 K n j33_X j33_A j33_B j33_Q v17 Im21 Jm22 j60_s0 = some out → ∀ (H : Heap) (locs : List Loc) (ls : Array Slot), RS G K Im21 Jm22 j33_X j33_A j33_B j33_Q H → va_S (gA G) s.heap H locs → lv_has ls 4 [(0, .ref o), (1, .int p1), (2, .int v17)] → W p l e ({ frames := 4, cells := 1, slots := 3, locals := 86 } : Room) s m args below meth c H locs 0 0 Z (F0 m 60 ls [.int j60_s0, .ref o]) := by
      intro j60_s0 hf H locs ls hR hS hl
      unfold w13_counts_j60 at hf
      refine lv_iconst (v := 1) hx hb dX13_counts_60 li_1 ?_
      obtain ⟨a25, ha25, hf⟩ := bind_s hf
      obtain ⟨g26, hf⟩ := gdp_some hf
      obtain ⟨g27, hf⟩ := gdp_some hf
      obtain ⟨g28, hf⟩ := gdp_some hf
      obtain ⟨r24, hr24, hf⟩ := bind_s hf
      refine x0_gou (vx_runU (As := [.int j60_s0, .int (1 : Int32)]) (rest := []) (b := o) ⟨hx, hb, hml, hown, hts⟩ (m6_mustS l G K Im21 Jm22 j33_X j33_A j33_B j33_Q o a25 g7 g26 g27 ha25 g28 j60_s0 (1 : Int32) (Im21 106 (a25 + 2)) (Im21 107 (a25 + 2)) (Im21 1002 o) rfl rfl rfl r24 hr24) (va_cwU (x := ⟨"PailRow$SentenceReader", "must", "(ZI)V"⟩) (owner := "PailRow$Reader") 2 hts gu_X13_46_10 rfl rfl rfl rfl ⟨by decide +kernel, by decide +kernel, by decide +kernel⟩ ⟨Nat.le_of_ble_eq_true rfl, Nat.le_of_ble_eq_true rfl⟩) (x_preV hG hR hW hS g7.1 rfl) rfl rfl hl.1 rfl (lv_room (Nat.le_of_ble_eq_true rfl)) dX13_counts_61 ⟨Nat.zero_le _, Nat.zero_le _⟩) hS (fun H locs hnv30 hR hS => ?_) (fun v30 H locs hvv30 hR hS => ?_)
      · have hf := tr_n hnv30 hf
        obtain ⟨Im29, eIm29, hf⟩ := lt_some hf
        rw [← eIm29] at hR
        obtain ⟨k32, hf⟩ := gdp_some hf
        obtain ⟨c33, hf⟩ := gdp_some hf
        refine vx_widen c33.1 c33.2 ?_
        obtain rfl := some_i hf
        exact hthr _ rfl _ _ _ _ _ k32 hR hS
      have hf := tr_s hvv30 hf
      obtain ⟨Im29, eIm29, hf⟩ := lt_some hf
      rw [← eIm29] at hR
      refine lv_aload_n hx hb dX13_counts_64 rfl (lv_at hl 0 rfl) ?_
      obtain ⟨v34, ev34, hf⟩ := lt_some hf
      refine n_geti (v := v34) hx hb hts hown hG hR gFi_X13_101_10 k16 ev34.symm dX13_counts_65 ?_
      refine lv_istore_n (lv' := [(3, .int v34), (0, .ref o), (1, .int p1), (2, .int v17)]) hx hb dX13_counts_68 rfl hl (by decide) rfl (fun ls hl => ?_)
      refine lv_aload_n hx hb dX13_counts_69 rfl (lv_at hl 1 rfl) ?_
      obtain ⟨a36, ha36, hf⟩ := bind_s hf
      obtain ⟨g37, hf⟩ := gdp_some hf
      obtain ⟨r35, hr35, hf⟩ := bind_s hf
      refine g0_cUv (rm := (3, 65)) (As := []) (rest := []) ⟨hx, hb, hml, hown, hts⟩ hG hR hS (m6_nextS l G K Im29 Jm22 j33_X j33_A j33_B j33_Q o a36 g7 g37 ha36 (Im29 2 a36) (Im29 1000 o) (Im29 1001 o) (Im29 1002 o) (Im29 1003 o) (Im29 1004 o) (Im29 1005 o) (Jm22 1006 o) (j33_A (a36 + 1)) rfl rfl rfl rfl rfl rfl rfl rfl rfl r35 hr35) (va_cwU (x := ⟨"PailRow$SentenceReader", "next", "()V"⟩) (owner := "PailRow$Reader") 0 hts gu_X13_59_10 rfl rfl rfl rfl ⟨by decide +kernel, by decide +kernel, by decide +kernel⟩ ⟨Nat.le_of_ble_eq_true rfl, Nat.le_of_ble_eq_true rfl⟩) g7.1 rfl rfl hl.1 (Nat.le_of_ble_eq_true rfl) dX13_counts_70 ⟨Nat.zero_le _, Nat.zero_le _⟩ rfl (fun H locs hR hS => ?_)
      obtain ⟨Im38, eIm38, hf⟩ := lt_some hf
      obtain ⟨Jm39, eJm39, hf⟩ := lt_some hf
      rw [← eIm38, ← eJm39] at hR
      obtain ⟨c40, hf⟩ := gdp_some hf
      obtain ⟨c41, hf⟩ := gdp_some hf
      refine s_new (n := n) (ci := 15) (T := TX19) (N := 3) hx hb hts in_X19 tyX19 tyX19_ok hown (hts _ q1466) (hts _ q1467) (hts _ q131) hG hR c40 hS (hz k0) rfl (by decide) hdv_15 c41.1 c41.2 dX13_counts_73 (fun H hR hS => ?_)
      obtain ⟨Km42, eKm42, hf⟩ := lt_some hf
      obtain ⟨Im43, eIm43, hf⟩ := lt_some hf
      obtain ⟨Jm44, eJm44, hf⟩ := lt_some hf
      obtain ⟨Xm45, eXm45, hf⟩ := lt_some hf
      rw [← eKm42, ← eIm43, ← eJm44, ← eXm45] at hR
      obtain ⟨n46, en46, hf⟩ := lt_some hf
      obtain ⟨u47, eu47, hf⟩ := lt_some hf
      obtain ⟨v48, ev48, hf⟩ := lt_some hf
      refine W.widen (k := u47) (n := v48) (Nat.le_of_eq eu47.symm) (Nat.le_of_eq ev48.symm) ?_
      refine lv_dup hx hb dX13_counts_76 rfl ?_
      refine lv_iload_n hx hb dX13_counts_77 rfl (lv_at hl 2 rfl) ?_
      refine lv_iload_n hx hb dX13_counts_78 rfl (lv_at hl 3 rfl) ?_
      refine lv_iload_n hx hb dX13_counts_79 rfl (lv_at hl 0 rfl) ?_
      obtain ⟨c50, hf⟩ := gdp_some hf
      obtain ⟨r49, hr49, hf⟩ := bind_s hf
      refine x0_gor (vx_runI (As := [.int p1, .int v17, .int v34]) (rest := [.ref n]) (b := n) ⟨hx, hb, hml, hown, hts⟩ (m19_init_w l G Km42 Im43 Jm44 Xm45 j33_A j33_B j33_Q n46 n p1 v17 v34 r49 hr49) ⟨callB_of 3 hts (lw_meth q1470) rfl rfl rfl (hts _ q131) (hts _ q1468) (by decide +kernel) ⟨Nat.le_of_ble_eq_true rfl, Nat.le_of_ble_eq_true rfl⟩, rfl, hts _ q1469⟩ (x_preS hG hR hW hS) rfl rfl hl.1 rfl (lv_room (Nat.le_of_ble_eq_true rfl)) dX13_counts_80 ⟨c50.1, c50.2⟩) hS (fun H locs hR hS => ?_)
      obtain ⟨c51, hf⟩ := gdp_some hf
      refine W.widen c51.1 c51.2 ?_
      obtain rfl := some_i hf
      exact hend _ rfl _ _ _ _ dX13_counts_83 hR hS
    refine lv_icmp_ne (tgt := 59) hx hb dX13_counts_52 (by decide) (fun c52 => ?_) (fun c52 => ?_)
    · have hf := ite_f c52 hf
      refine lv_iconst (v := 0) hx hb dX13_counts_59 li_0 ?_
      exact hj60 (0 : Int32) hf _ _ _ hR hS (lv_sub hl [1, 2, 0] rfl)
    · have hf := ite_t c52 hf
      refine lv_iconst (v := 1) hx hb dX13_counts_55 li_1 ?_
      refine lv_goto (tgt := 60) hx hb dX13_counts_56 (by decide) ?_
      exact hj60 (1 : Int32) hf _ _ _ hR hS (lv_sub hl [1, 2, 0] rfl)
  have hj28 : ∀ (j28_I : gI) (j28_J : gJ) (j28_X : gX) (j28_A : gI) (j28_B : gJ) (j28_Q : gX), w13_counts_j28 G.2.2 (aK G) o p1 K n j28_I j28_J j28_X j28_A j28_B j28_Q = some out → ∀ (H : Heap) (locs : List Loc) (ls : Array Slot), RS G K j28_I j28_J j28_X j28_A j28_B j28_Q H → va_S (gA G) s.heap H locs → lv_has ls 4 [(0, .ref o), (1, .int p1)] → W p l e ({ frames := 4, cells := 1, slots := 3, locals := 86 } : Room) s m args below meth c H locs 0 0 Z (F0 m 28 ls [.ref o]) := by
    intro j28_I j28_J j28_X j28_A j28_B j28_Q hf H locs ls hR hS hl
    unfold w13_counts_j28 at hf
    refine lv_iconst (v := 1) hx hb dX13_counts_28 li_1 ?_
    refine lv_goto (tgt := 33) hx hb dX13_counts_29 (by decide) ?_
    exact hj33 (1 : Int32) j28_I j28_J j28_X j28_A j28_B j28_Q hf _ _ _ hR hS (lv_sub hl [0, 1] rfl)
  refine lv_if_ne (tgt := 28) hx hb dX13_counts_7 (by decide) (fun c53 => ?_) (fun c53 => ?_)
  · have hf := ite_f c53 hf
    exact hj28 I J X A B Q hf _ _ _ hR hS (lv_sub hl [0, 1] rfl)
  · have hf := ite_t c53 hf
    refine lv_aload_n hx hb dX13_counts_10 rfl (lv_at hl 0 rfl) ?_
    refine lv_bipush (v := 61) hx hb dX13_counts_11 lb_61 ?_
    obtain ⟨a55, ha55, hf⟩ := bind_s hf
    obtain ⟨g56, hf⟩ := gdp_some hf
    obtain ⟨r54, hr54, hf⟩ := bind_s hf
    refine g0_cU (rm := (0, 0)) (As := [.int (61 : Int32)]) (rest := [.ref o]) ⟨hx, hb, hml, hown, hts⟩ hG hR hS (m6_is_2S l G K I J X A B Q o a55 g3 g56 ha55 (61 : Int32) (I 1003 o) (I 1004 o) rfl rfl r54 hr54) (va_cwU (x := ⟨"PailRow$SentenceReader", "is", "(I)Z"⟩) (owner := "PailRow$Reader") 1 hts gu_X13_77_10 rfl rfl rfl rfl ⟨by decide +kernel, by decide +kernel, by decide +kernel⟩ ⟨Nat.le_of_ble_eq_true rfl, Nat.le_of_ble_eq_true rfl⟩) g3.1 rfl rfl hl.1 (Nat.le_of_ble_eq_true rfl) dX13_counts_13 ⟨Nat.zero_le _, Nat.zero_le _⟩ rfl (fun H locs hR hS => ?_)
    refine lv_if_ne (tgt := 28) hx hb dX13_counts_16 (by decide) (fun c57 => ?_) (fun c57 => ?_)
    · have hf := ite_f c57 hf
      exact hj28 I J X A B Q hf _ _ _ hR hS (lv_sub hl [0, 1] rfl)
    · have hf := ite_t c57 hf
      refine lv_aload_n hx hb dX13_counts_19 rfl (lv_at hl 0 rfl) ?_
      refine lv_bipush (v := 62) hx hb dX13_counts_20 lb_62 ?_
      obtain ⟨a59, ha59, hf⟩ := bind_s hf
      obtain ⟨g60, hf⟩ := gdp_some hf
      obtain ⟨r58, hr58, hf⟩ := bind_s hf
      refine g0_cU (rm := (0, 0)) (As := [.int (62 : Int32)]) (rest := [.ref o]) ⟨hx, hb, hml, hown, hts⟩ hG hR hS (m6_is_2S l G K I J X A B Q o a59 g3 g60 ha59 (62 : Int32) (I 1003 o) (I 1004 o) rfl rfl r58 hr58) (va_cwU (x := ⟨"PailRow$SentenceReader", "is", "(I)Z"⟩) (owner := "PailRow$Reader") 1 hts gu_X13_77_10 rfl rfl rfl rfl ⟨by decide +kernel, by decide +kernel, by decide +kernel⟩ ⟨Nat.le_of_ble_eq_true rfl, Nat.le_of_ble_eq_true rfl⟩) g3.1 rfl rfl hl.1 (Nat.le_of_ble_eq_true rfl) dX13_counts_22 ⟨Nat.zero_le _, Nat.zero_le _⟩ rfl (fun H locs hR hS => ?_)
      refine lv_if_eq (tgt := 32) hx hb dX13_counts_25 (by decide) (fun c61 => ?_) (fun c61 => ?_)
      · have hf := ite_t c61 hf
        refine lv_iconst (v := 0) hx hb dX13_counts_32 li_0 ?_
        exact hj33 (0 : Int32) I J X A B Q hf _ _ _ hR hS (lv_sub hl [0, 1] rfl)
      · have hf := ite_f c61 hf
        exact hj28 I J X A B Q hf _ _ _ hR hS (lv_sub hl [0, 1] rfl)
