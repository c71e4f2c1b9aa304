/-! STRING CONSTANTS: length, charAt -/
set_option maxRecDepth 100000
theorem s_byte : ∀ i, i < 29 → ∀ k, k < lenS i → ((bytS i k &&& 255).toUInt32 % 65536).toInt32 = bytS i k ∧ narrow .char (.int (bytS i k)) = .int (bytS i k) := by decide +kernel
theorem s_len6 : ∀ i, i < 29 → lenS i < 7 := by decide +kernel
theorem s_shr : ∀ i, i < 29 → Int32.ofNat (lenS i) = Int32.ofNat (lenS i) >>> ((0 : Int32) &&& 31) := by decide +kernel
theorem s_lt : ∀ n, n < 7 → ∀ k, k < n → Int32.ofNat k < Int32.ofNat n ∧ ¬ Int32.ofNat k < 0 ∧ (Int32.ofNat k).toNatClampNeg = k := by decide +kernel
theorem s_i255 : (Int16.ofInt 255).toInt32 = 255 := by decide
section STR
variable {p : Program} {l : Launch} {e : Env} {R : Room} {s : State} {m : MethodId} {args : Array Value} {below : List Frame} {meth : Method} {c : Code} {H H0 : Heap} {locs : List Loc} {cells slots : Nat} {Z : State → Prop}
variable {cc : ByteArray} {pc index : Nat} {ls : Array Slot} {rest : List Value} {G : gG} {own : String} {i : Nat}
theorem s_val (hx : p.tables.exec = Jvm.exec) (hb : c.code = cc) (hW : SW G s s.heap) (hS : va_S (gA G) s.heap H locs) (hi : i < 29) (hown : s.vm.findClass own = some m.cls) (hlink : (Cond.fieldLink own index "java/lang/String" "value" "[B").before args s = true) (hdg : decode cc pc = .ok (.getfield index, 3))
    (kk : W p l e R s m args below meth c H locs cells slots Z (F0 m (pc + 3) ls (.ref (aV G i) :: rest))) : W p l e R s m args below meth c H locs cells slots Z (F0 m pc ls (.ref (aK G i) :: rest)) :=
  vk_getf hx hb (hW.2.1 i hi).2.2.1 hS hown hlink (fun x h => h) hdg kk
theorem s_cod (hx : p.tables.exec = Jvm.exec) (hb : c.code = cc) (hW : SW G s s.heap) (hS : va_S (gA G) s.heap H locs) (hi : i < 29) (hown : s.vm.findClass own = some m.cls) (hlink : (Cond.fieldLink own index "java/lang/String" "coder" "B").before args s = true) (hdg : decode cc pc = .ok (.getfield index, 3))
    (kk : W p l e R s m args below meth c H locs cells slots Z (F0 m (pc + 3) ls (.int 0 :: rest))) : W p l e R s m args below meth c H locs cells slots Z (F0 m pc ls (.ref (aK G i) :: rest)) :=
  vk_getf hx hb (hW.2.1 i hi).2.1 hS hown hlink (fun x h => h) hdg kk
theorem s_alen (hx : p.tables.exec = Jvm.exec) (hb : c.code = cc) (hW : SW G s s.heap) (hS : va_S (gA G) s.heap H locs) (hi : i < 29) (hdg : decode cc pc = .ok (.arraylength, 1))
    (kk : W p l e R s m args below meth c H locs cells slots Z (F0 m (pc + 1) ls (.int (Int32.ofNat (lenS i)) :: rest))) : W p l e R s m args below meth c H locs cells slots Z (F0 m pc ls (.ref (aV G i) :: rest)) := by
  obtain ⟨cell, h1, h2, h3, h4, h5, h6, h7⟩ := ((hW.2.1 i hi).2.2.2).kept hS.2.1
  exact W.alen hx hb h1 h2 h5 rfl rfl hdg kk
theorem s_bald {k : Nat} (hx : p.tables.exec = Jvm.exec) (hb : c.code = cc) (hW : SW G s s.heap) (hS : va_S (gA G) s.heap H locs) (hi : i < 29) (hk : k < lenS i) (hdg : decode cc pc = .ok (.baload, 1))
    (kk : W p l e R s m args below meth c H locs cells slots Z (F0 m (pc + 1) ls (.int (bytS i k) :: rest))) : W p l e R s m args below meth c H locs cells slots Z (F0 m pc ls (.int (Int32.ofNat k) :: .ref (aV G i) :: rest)) := by
  obtain ⟨cell, h1, h2, h3, h4, h5, h6, h7⟩ := ((hW.2.1 i hi).2.2.2).kept hS.2.1
  obtain ⟨q1, q2, q3⟩ := s_lt _ (s_len6 i hi) k hk
  exact W.bald (v := .int (bytS i k)) hx hb h1 h2 h3 (by rw [q3]; rintro (h | h); exact q2 h; omega) (by rw [q3]; exact h6 k hk) rfl rfl hdg kk
end STR
section STM
variable (l : Launch) (G : gG) (K : gK) (I : gI) (J : gJ) (X : gX) (A : gI) (B : gJ) (Q : gX) (i : Nat)
theorem sJ2_coder (hi : i < 29) : GMetX l yJ2_coder cJ2_coder 1 (some .byte) 0 0 G [.ref (aK G i)] K I J X A B Q (.inr (some (.int 0))) K I J X A B Q 0 0 := by
  refine GMetX.of (y := yJ2_coder) rfl (Nat.le_of_ble_eq_true rfl) rfl ?_
  intro p e s m below meth c ls hx hb hr hml hlocks hts hown hname ht hG hR hW hl
  have hown : s.vm.findClass "java/lang/String" = some m.cls := hown
  have hS : va_S (gA G) s.heap s.heap [] := va_S.rf
  refine va_gets hx hb hW.2.2.1 hS hown (hts _ q892) (fun x h => h) dJ2_coder_0 ?_
  refine lv_if_eq (tgt := 13) hx hb dJ2_coder_3 (by decide) (fun c1 => absurd c1 (by decide)) (fun c1 => ?_)
  refine lv_aload_n hx hb dJ2_coder_6 rfl (lv_at hl 0 rfl) ?_
  refine s_cod hx hb hW hS hi hown (hts _ q2371) dJ2_coder_7 ?_
  refine lv_goto (tgt := 14) hx hb dJ2_coder_10 (by decide) ?_
  exact x_nret hx hb hr (by decide) hlocks hG hR hS rfl dJ2_coder_14
theorem sJ2_isLatin1 (hi : i < 29) : GMetX l yJ2_isLatin1 cJ2_isLatin1 1 (some .boolean) 0 0 G [.ref (aK G i)] K I J X A B Q (.inr (some (.int 1))) K I J X A B Q 0 0 := by
  refine GMetX.of (y := yJ2_isLatin1) rfl (Nat.le_of_ble_eq_true rfl) rfl ?_
  intro p e s m below meth c ls hx hb hr hml hlocks hts hown hname ht hG hR hW hl
  have hown : s.vm.findClass "java/lang/String" = some m.cls := hown
  have hS : va_S (gA G) s.heap s.heap [] := va_S.rf
  refine va_gets hx hb hW.2.2.1 hS hown (hts _ q892) (fun x h => h) dJ2_isLatin1_0 ?_
  refine lv_if_eq (tgt := 17) hx hb dJ2_isLatin1_3 (by decide) (fun c1 => absurd c1 (by decide)) (fun c1 => ?_)
  refine lv_aload_n hx hb dJ2_isLatin1_6 rfl (lv_at hl 0 rfl) ?_
  refine s_cod hx hb hW hS hi hown (hts _ q2371) dJ2_isLatin1_7 ?_
  refine lv_if_ne (tgt := 17) hx hb dJ2_isLatin1_10 (by decide) (fun c1 => absurd rfl c1) (fun c1 => ?_)
  refine lv_iconst (v := 1) hx hb dJ2_isLatin1_13 (by decide) ?_
  refine lv_goto (tgt := 18) hx hb dJ2_isLatin1_14 (by decide) ?_
  exact x_nret hx hb hr nz_1 hlocks hG hR hS rfl dJ2_isLatin1_18
theorem sJ2_length (hi : i < 29) : GMetX l yJ2_length cJ2_length 1 (some .int) 1 20 G [.ref (aK G i)] K I J X A B Q (.inr (some (.int (Int32.ofNat (lenS i))))) K I J X A B Q 0 0 := by
  refine GMetX.of (y := yJ2_length) rfl (Nat.le_of_ble_eq_true rfl) rfl ?_
  intro p e s m below meth c ls hx hb hr hml hlocks hts hown hname ht hG hR hW hl
  have hown : s.vm.findClass "java/lang/String" = some m.cls := hown
  have hS : va_S (gA G) s.heap s.heap [] := va_S.rf
  refine lv_aload_n hx hb dJ2_length_0 rfl (lv_at hl 0 rfl) ?_
  refine s_val hx hb hW hS hi hown (hts _ q2370) dJ2_length_1 ?_
  refine s_alen hx hb hW hS hi dJ2_length_4 ?_
  refine lv_aload_n hx hb dJ2_length_5 rfl (lv_at hl 0 rfl) ?_
  refine x_gor (vx_runV (As := []) (rest := [.int (Int32.ofNat (lenS i))]) ⟨hx, hb, hml, hown, hts⟩ (sJ2_coder l G K I J X A B Q i hi) ⟨callB_of 0 hts (lw_meth q891) rfl rfl rfl (hts _ q119) (hts _ q888) (by decide +kernel) ⟨Nat.le_of_ble_eq_true rfl, Nat.le_of_ble_eq_true rfl⟩, hts _ q889, hts _ q890⟩ (x_preT hG hR hW hS hi) rfl rfl hl.1 rfl (lv_room (Nat.le_of_ble_eq_true rfl)) dJ2_length_6 ⟨Nat.le_refl _, Nat.le_refl _⟩) hS (fun H locs hR hS => ?_)
  refine n_ishr hx hb (s_shr i hi) dJ2_length_9 ?_
  exact x_nret hx hb hr rfl hlocks hG hR hS rfl dJ2_length_10
theorem sJ4_checkIndex (k n : Int32) (o : Option Nat) (h0 : ¬ k < 0) (h1 : k < n) : GMetX l yJ4_checkIndex cJ4_checkIndex 3 (some .int) 0 0 G [.int k, .int n, va_rf o] K I J X A B Q (.inr (some (.int k))) K I J X A B Q 0 0 := by
  refine GMetX.of (y := yJ4_checkIndex) rfl (by cases o <;> exact Nat.le_of_ble_eq_true rfl) (la := [(0, .int k), (1, .int n), (2, va_rf o)]) (by cases o <;> rfl) ?_
  intro p e s m below meth c ls hx hb hr hml hlocks hts hown hname ht hG hR hW hl
  have hS : va_S (gA G) s.heap s.heap [] := va_S.rf
  refine lv_iload_n hx hb dJ4_checkIndex_0 rfl (lv_at hl 0 rfl) ?_
  refine lv_if_lt (tgt := 9) hx hb dJ4_checkIndex_1 (by decide) (fun c1 => absurd c1 h0) (fun c1 => ?_)
  refine lv_iload_n hx hb dJ4_checkIndex_4 rfl (lv_at hl 0 rfl) ?_
  refine lv_iload_n hx hb dJ4_checkIndex_5 rfl (lv_at hl 1 rfl) ?_
  refine lv_icmp_lt (tgt := 16) hx hb dJ4_checkIndex_6 (by decide) (fun c1 => ?_) (fun c2 => absurd h1 c2)
  refine lv_iload_n hx hb dJ4_checkIndex_16 rfl (lv_at hl 0 rfl) ?_
  exact x_nret hx hb hr rfl hlocks hG hR hS rfl dJ4_checkIndex_17
theorem sJ2_checkIndex (k n : Int32) (h0 : ¬ k < 0) (h1 : k < n) : GMetX l yJ2_checkIndex cJ2_checkIndex 2 none 1 22 G [.int k, .int n] K I J X A B Q (.inr none) K I J X A B Q 0 0 := by
  refine GMetX.of (y := yJ2_checkIndex) rfl (Nat.le_of_ble_eq_true rfl) rfl ?_
  intro p e s m below meth c ls hx hb hr hml hlocks hts hown hname ht hG hR hW hl
  have hown : s.vm.findClass "java/lang/String" = some m.cls := hown
  have hS : va_S (gA G) s.heap s.heap [] := va_S.rf
  refine lv_iload_n hx hb dJ2_checkIndex_0 rfl (lv_at hl 0 rfl) ?_
  refine lv_iload_n hx hb dJ2_checkIndex_1 rfl (lv_at hl 1 rfl) ?_
  have key : ∀ o : Option Nat, W p l e ({ frames := 1, cells := 0, slots := 0, locals := 22 } : Room) s m ([.int k, .int n] : List Value).toArray below meth c s.heap [] 0 0 (vx_MQ below (xQ G (.inr none) K I J X A B Q) (xX G (.inr none) K I J X A B Q) ([.int k, .int n] : List Value).toArray s 0 0 (gA G)) (F0 m 5 ls [va_rf o, .int n, .int k]) := by
    intro o
    refine x_gor (vx_runS (As := [.int k, .int n, va_rf o]) (rest := []) ⟨hx, hb, hml, hown, hts⟩ (sJ4_checkIndex l G K I J X A B Q k n o h0 h1) ⟨callB_of 3 hts (lw_meth q912) rfl rfl rfl (hts _ q121) (hts _ q910) (by decide +kernel) ⟨Nat.le_of_ble_eq_true rfl, Nat.le_of_ble_eq_true rfl⟩, hts _ q911⟩ (x_preS hG hR hW hS) rfl rfl hl.1 rfl (lv_room (Nat.le_of_ble_eq_true rfl)) dJ2_checkIndex_5 ⟨Nat.le_refl _, Nat.le_refl _⟩) hS (fun H locs hR hS => ?_)
    refine lv_pop hx hb dJ2_checkIndex_8 rfl ?_
    exact x_vret hx hb hr hlocks hG hR hS rfl dJ2_checkIndex_9
  rcases hW.2.2.2.1 with hZ | ⟨t, hZ⟩
  · exact va_gets hx hb hZ hS hown (hts _ q908) (fun x h => h) dJ2_checkIndex_2 (key none)
  · exact va_gets hx hb hZ hS hown (hts _ q908) (fun x h => h) dJ2_checkIndex_2 (key (some t))
theorem sJ3_charAt (k : Nat) (hi : i < 29) (hk : k < lenS i) : GMetX l yJ3_charAt cJ3_charAt 2 (some .char) 2 43 G [.ref (aV G i), .int (Int32.ofNat k)] K I J X A B Q (.inr (some (.int (bytS i k)))) K I J X A B Q 0 0 := by
  refine GMetX.of (y := yJ3_charAt) rfl (Nat.le_of_ble_eq_true rfl) rfl ?_
  intro p e s m below meth c ls hx hb hr hml hlocks hts hown hname ht hG hR hW hl
  have hown : s.vm.findClass "java/lang/StringLatin1" = some m.cls := hown
  have hS : va_S (gA G) s.heap s.heap [] := va_S.rf
  obtain ⟨g1, g2, g3⟩ := s_lt _ (s_len6 i hi) k hk
  refine lv_iload_n hx hb dJ3_charAt_0 rfl (lv_at hl 1 rfl) ?_
  refine lv_aload_n hx hb dJ3_charAt_1 rfl (lv_at hl 0 rfl) ?_
  refine s_alen hx hb hW hS hi dJ3_charAt_2 ?_
  refine x_gor (vx_runS (As := [.int (Int32.ofNat k), .int (Int32.ofNat (lenS i))]) (rest := []) ⟨hx, hb, hml, hown, hts⟩ (sJ2_checkIndex l G K I J X A B Q _ _ g2 g1) ⟨callB_of 2 hts (lw_meth q907) rfl rfl rfl (hts _ q119) (hts _ q905) (by decide +kernel) ⟨Nat.le_of_ble_eq_true rfl, Nat.le_of_ble_eq_true rfl⟩, hts _ q906⟩ (x_preS hG hR hW hS) rfl rfl hl.1 rfl (lv_room (Nat.le_of_ble_eq_true rfl)) dJ3_charAt_3 ⟨Nat.le_refl _, Nat.le_refl _⟩) hS (fun H locs hR hS => ?_)
  refine lv_aload_n hx hb dJ3_charAt_6 rfl (lv_at hl 0 rfl) ?_
  refine lv_iload_n hx hb dJ3_charAt_7 rfl (lv_at hl 1 rfl) ?_
  refine s_bald hx hb hW hS hi hk dJ3_charAt_8 ?_
  refine lv_sipush (v := 255) hx hb dJ3_charAt_9 s_i255 ?_
  refine lv_iand hx hb dJ3_charAt_12 ?_
  refine lv_i2c hx hb dJ3_charAt_13 (s_byte i hi k hk).1 ?_
  exact x_nret hx hb hr (s_byte i hi k hk).2 hlocks hG hR hS rfl dJ3_charAt_14
theorem sJ2_charAt (k : Nat) (hi : i < 29) (hk : k < lenS i) : GMetX l yJ2_charAt cJ2_charAt 2 (some .char) 3 64 G [.ref (aK G i), .int (Int32.ofNat k)] K I J X A B Q (.inr (some (.int (bytS i k)))) K I J X A B Q 0 0 := by
  refine GMetX.of (y := yJ2_charAt) rfl (Nat.le_of_ble_eq_true rfl) rfl ?_
  intro p e s m below meth c ls hx hb hr hml hlocks hts hown hname ht hG hR hW hl
  have hown : s.vm.findClass "java/lang/String" = some m.cls := hown
  have hS : va_S (gA G) s.heap s.heap [] := va_S.rf
  refine lv_aload_n hx hb dJ2_charAt_0 rfl (lv_at hl 0 rfl) ?_
  refine x_gor (vx_runV (As := []) (rest := []) ⟨hx, hb, hml, hown, hts⟩ (sJ2_isLatin1 l G K I J X A B Q i hi) ⟨callB_of 0 hts (lw_meth q901) rfl rfl rfl (hts _ q119) (hts _ q898) (by decide +kernel) ⟨Nat.le_of_ble_eq_true rfl, Nat.le_of_ble_eq_true rfl⟩, hts _ q899, hts _ q900⟩ (x_preT hG hR hW hS hi) rfl rfl hl.1 rfl (lv_room (Nat.le_of_ble_eq_true rfl)) dJ2_charAt_1 ⟨Nat.le_refl _, Nat.le_refl _⟩) hS (fun H locs hR hS => ?_)
  refine lv_if_eq (tgt := 16) hx hb dJ2_charAt_4 (by decide) (fun c1 => absurd c1 (by decide)) (fun c1 => ?_)
  refine lv_aload_n hx hb dJ2_charAt_7 rfl (lv_at hl 0 rfl) ?_
  refine s_val hx hb hW hS hi hown (hts _ q2370) dJ2_charAt_8 ?_
  refine lv_iload_n hx hb dJ2_charAt_11 rfl (lv_at hl 1 rfl) ?_
  refine x_gor (vx_runS (As := [.ref (aV G i), .int (Int32.ofNat k)]) (rest := []) ⟨hx, hb, hml, hown, hts⟩ (sJ3_charAt l G K I J X A B Q i k hi hk) ⟨callB_of 2 hts (lw_meth q904) rfl rfl rfl (hts _ q120) (hts _ q902) (by decide +kernel) ⟨Nat.le_of_ble_eq_true rfl, Nat.le_of_ble_eq_true rfl⟩, hts _ q903⟩ (x_preS hG hR hW hS) rfl rfl hl.1 rfl (lv_room (Nat.le_of_ble_eq_true rfl)) dJ2_charAt_12 ⟨Nat.le_refl _, Nat.le_refl _⟩) hS (fun H locs hR hS => ?_)
  exact x_nret hx hb hr (s_byte i hi k hk).2 hlocks hG hR hS rfl dJ2_charAt_15
end STM
