/-! the walks of the readers (printed by tools) 2 -/
set_option maxRecDepth 100000
noncomputable def f6_beginS (i_h_size : Int32) (i_most : Int32) (i_p : Int32) (i_at : Int32) (i_token : Int32) (i_value : Int32) (i_many : Int32) (j_name : Int64) (a_h_tape : Nat → Int32) : Option (Int32 × Int32 × Int32 × Int32 × Int32 × Int64) :=
  (f6_nextS i_h_size i_most (0 : Int32) i_at i_token i_value i_many j_name a_h_tape).bind fun rr1 =>
  some (rr1.1, rr1.2.1, rr1.2.2.1, rr1.2.2.2.1, rr1.2.2.2.2.1, rr1.2.2.2.2.2)
set_option maxHeartbeats 4000000 in
theorem m6_beginS (l : Launch) (G : gG) (K : gK) (I : gI) (J : gJ) (X : gX) (A : gI) (B : gJ) (Q : gX) (o : Nat) (h : Nat) (sh_o : Sh K X o 10 rows10) (sh_h : Sh K X h 0 rows0) (x_o_thisR : X 1007 o = some h)  (i_h_size : Int32) (i_most : Int32) (i_p : Int32) (i_at : Int32) (i_token : Int32) (i_value : Int32) (i_many : Int32) (j_name : Int64) (a_h_tape : Nat → Int32) (e_i_h_size : I 2 h = i_h_size) (e_i_most : I 1000 o = i_most) (e_i_p : I 1001 o = i_p) (e_i_at : I 1002 o = i_at) (e_i_token : I 1003 o = i_token) (e_i_value : I 1004 o = i_value) (e_i_many : I 1005 o = i_many) (e_j_name : J 1006 o = j_name) (e_a_h_tape : A (h + 1) = a_h_tape) (out : Int32 × Int32 × Int32 × Int32 × Int32 × Int64) (hf : f6_beginS i_h_size i_most i_p i_at i_token i_value i_many j_name a_h_tape = some out) : GMet l yX6_begin cX6_begin 1 none (4) (86) G [.ref o] K I J X A B Q none K (ov I [(1001, o, out.1), (1002, o, out.2.1), (1003, o, out.2.2.1), (1004, o, out.2.2.2.1), (1005, o, out.2.2.2.2.1)]) (ov J [(1006, o, out.2.2.2.2.2)]) X A B Q 0 0 := by
  refine GMet.of (y := yX6_begin) rfl (Nat.le_of_ble_eq_true rfl) rfl ?_
  intro p e s m below meth c ls hx hb hr hml hlocks hts hown hname hG hR hl
  have hown : s.vm.findClass RX6 = some m.cls := hown
  have k_a_h_tape : K (h + 1) = some (.inr (2, 740)) := (sh_h.2 0 _ rfl).1
  have hR : RS G K (ov I [(1001, o, i_p), (1002, o, i_at), (1003, o, i_token), (1004, o, i_value), (1005, o, i_many)]) (ov J [(1006, o, j_name)]) X A B Q s.heap := hR.to (Eq.symm (ov_sc e_i_p (ov_sc e_i_at (ov_sc e_i_token (ov_sc e_i_value (ov_sc e_i_many rfl)))))) (Eq.symm (ov_sc e_j_name rfl)) rfl rfl rfl rfl
  have hS : va_S (gA G) s.heap s.heap [] := va_S.rf
  have hend : ∀ (pc : Nat) (H : Heap) (locs : List Loc) (ls : Array Slot), decode cX6_begin pc = .ok (.return_, 1) → RS G K (ov I [(1001, o, out.1), (1002, o, out.2.1), (1003, o, out.2.2.1), (1004, o, out.2.2.2.1), (1005, o, out.2.2.2.2.1)]) (ov J [(1006, o, out.2.2.2.2.2)]) X A B Q H → va_S (gA G) s.heap H locs → W p l e ({ frames := 4, cells := 0, slots := 0, locals := 86 } : Room) s m ([.ref o] : List Value).toArray below meth c H locs 0 0 (MQ below (gQ G none K (ov I [(1001, o, out.1), (1002, o, out.2.1), (1003, o, out.2.2.1), (1004, o, out.2.2.2.1), (1005, o, out.2.2.2.2.1)]) (ov J [(1006, o, out.2.2.2.2.2)]) X A B Q) ([.ref o] : List Value).toArray s 0 0 (gA G)) (F0 m pc ls []) := fun pc H locs ls hd hR hS => g_vret hx hb hr hlocks hG hR hS rfl hd
  generalize MQ below (gQ G none K (ov I [(1001, o, out.1), (1002, o, out.2.1), (1003, o, out.2.2.1), (1004, o, out.2.2.2.1), (1005, o, out.2.2.2.2.1)]) (ov J [(1006, o, out.2.2.2.2.2)]) X A B Q) ([.ref o] : List Value).toArray s 0 0 (gA G) = Z at hend ⊢
  generalize ([.ref o] : List Value).toArray = args at hts hend ⊢
  unfold f6_beginS at hf
  refine lv_aload_n hx hb dX6_begin_0 rfl (lv_at hl 0 rfl) ?_
  refine lv_iconst (v := 0) hx hb dX6_begin_1 li_0 ?_
  refine n_puti (li' := [(1001, o, (0 : Int32)), (1002, o, i_at), (1003, o, i_token), (1004, o, i_value), (1005, o, i_many)]) hx hb hts hown hG hR hS gPi_X6_19_10 sh_o.1 0 rfl rfl rfl dX6_begin_2 (fun H locs hR hS => ?_)
  refine lv_aload_n hx hb dX6_begin_5 rfl (lv_at hl 0 rfl) ?_
  obtain ⟨rr1, hrr1, hf⟩ := bind_s hf
  refine g0_cUv (rm := (3, 65)) (As := []) (rest := []) ⟨hx, hb, hml, hown, hts⟩ hG hR hS (m6_nextS l G K (ov I [(1001, o, (0 : Int32)), (1002, o, i_at), (1003, o, i_token), (1004, o, i_value), (1005, o, i_many)]) (ov J [(1006, o, j_name)]) X A B Q o h sh_o sh_h x_o_thisR i_h_size i_most (0 : Int32) i_at i_token i_value i_many j_name a_h_tape ((congrFun (ov_no rfl) _).trans e_i_h_size) ((congrFun (ov_no rfl) _).trans e_i_most) (ov_get 0 rfl rfl) (ov_get 1 rfl rfl) (ov_get 2 rfl rfl) (ov_get 3 rfl rfl) (ov_get 4 rfl rfl) (ov_get 0 rfl rfl) e_a_h_tape rr1 hrr1) (va_cwU (x := ⟨"PailRow$Reader", "next", "()V"⟩) (owner := "PailRow$Reader") 0 hts gu_X6_22_10 rfl rfl rfl rfl ⟨by decide, by decide, (hd_X6_next.2).2.2⟩ ⟨Nat.le_of_ble_eq_true rfl, Nat.le_of_ble_eq_true rfl⟩) sh_o.1 rfl rfl hl.1 (Nat.le_of_ble_eq_true rfl) dX6_begin_6 ⟨Nat.le_refl _, Nat.le_refl _⟩ rfl (fun H locs hR hS => ?_)
  have hR : RS G K (ov I [(1001, o, rr1.1), (1002, o, rr1.2.1), (1003, o, rr1.2.2.1), (1004, o, rr1.2.2.2.1), (1005, o, rr1.2.2.2.2.1)]) (ov J [(1006, o, rr1.2.2.2.2.2)]) X A B Q H := hR.to (ov_merge (l := [(1001, o, (0 : Int32)), (1002, o, i_at), (1003, o, i_token), (1004, o, i_value), (1005, o, i_many)]) rfl [0, 1, 2, 3, 4] [(1001, o, rr1.1), (1002, o, rr1.2.1), (1003, o, rr1.2.2.1), (1004, o, rr1.2.2.2.1), (1005, o, rr1.2.2.2.2.1)] rfl rfl) (ov_merge (l := [(1006, o, j_name)]) rfl [0] [(1006, o, rr1.2.2.2.2.2)] rfl rfl) rfl rfl rfl rfl
  obtain rfl := some_i hf
  exact hend _ _ _ _ dX6_begin_9 hR hS
noncomputable def f6_isS_e3_0 (x3_0 : Int32) : Option (Int32) :=
  some x3_0

noncomputable def f6_isS_s3 (s1 : Nat) (i_at : Int32) (i_many : Int32) (a_h_tape : Nat → Int32) (w3_2 : Int32) : Option ((Int32) ⊕ (Int32)) :=
  if i_many ≤ w3_2 then
    some (.inr (1 : Int32))
  else
    lt (i_at + w3_2) fun v5 =>
    gd (inb v5 740) <|
    lt (a_h_tape v5.toNatClampNeg) fun v7 =>
    gd (inb w3_2 (lenS s1)) <|
    if v7 = (bytS s1 w3_2.toNatClampNeg) then
      lt (w3_2 + (1 : Int32)) fun v10 =>
      some (.inl v10)
    else
      some (.inr (0 : Int32))

noncomputable def f6_isS (s1 : Nat) (i_at : Int32) (i_token : Int32) (i_many : Int32) (a_h_tape : Nat → Int32) : Option (Int32) :=
  if i_token = (1 : Int32) then
    if i_many = (Int32.ofNat (lenS s1)) then
      (whl (fun (s3 : Int32) => f6_isS_s3 s1 i_at i_many a_h_tape s3) FU (0 : Int32)).bind fun rl3 =>
      f6_isS_e3_0 rl3
    else
      some (0 : Int32)
  else
    some (0 : Int32)
set_option maxHeartbeats 4000000 in
theorem m6_isS (l : Launch) (G : gG) (K : gK) (I : gI) (J : gJ) (X : gX) (A : gI) (B : gJ) (Q : gX) (o : Nat) (h : Nat) (sh_o : Sh K X o 10 rows10) (sh_h : Sh K X h 0 rows0) (x_o_thisR : X 1007 o = some h) (s1 : Nat) (hs_1 : s1 < 29) (i_at : Int32) (i_token : Int32) (i_many : Int32) (a_h_tape : Nat → Int32) (e_i_at : I 1002 o = i_at) (e_i_token : I 1003 o = i_token) (e_i_many : I 1005 o = i_many) (e_a_h_tape : A (h + 1) = a_h_tape) (out : Int32) (hf : f6_isS s1 i_at i_token i_many a_h_tape = some out) : GMetX l yX6_is cX6_is 3 (some .boolean) (4) (85) G [.ref o, .ref (aK G s1)] K I J X A B Q (.inr (some (.int out))) K I J X A B Q 0 0 := by
  refine GMetX.of (y := yX6_is) rfl (Nat.le_of_ble_eq_true rfl) rfl ?_
  intro p e s m below meth c ls hx hb hr hml hlocks hts hown hname ht hG hR hW hl
  have hown : s.vm.findClass RX6 = some m.cls := hown
  have k_a_h_tape : K (h + 1) = some (.inr (2, 740)) := (sh_h.2 0 _ rfl).1
  have hR : RS G K I J X A B Q s.heap := hR.to rfl rfl rfl rfl rfl rfl
  have hS : va_S (gA G) s.heap s.heap [] := va_S.rf
  have hend : ∀ (pc : Nat) (H : Heap) (locs : List Loc) (ls : Array Slot), decode cX6_is pc = .ok (.ireturn, 1) → narrow .boolean (.int out) = .int out → RS G K I J X A B Q H → va_S (gA G) s.heap H locs → W p l e ({ frames := 4, cells := 0, slots := 0, locals := 85 } : Room) s m ([.ref o, .ref (aK G s1)] : List Value).toArray below meth c H locs 0 0 (vx_MQ below (xQ G (.inr (some (.int out))) K I J X A B Q) (xX G (.inr (some (.int out))) K I J X A B Q) ([.ref o, .ref (aK G s1)] : List Value).toArray s 0 0 (gA G)) (F0 m pc ls [.int out]) := fun pc H locs ls hd hz hR hS => x_nret hx hb hr hz hlocks hG hR hS rfl hd
  generalize vx_MQ below (xQ G (.inr (some (.int out))) K I J X A B Q) (xX G (.inr (some (.int out))) K I J X A B Q) ([.ref o, .ref (aK G s1)] : List Value).toArray s 0 0 (gA G) = Z at hend ⊢
  generalize ([.ref o, .ref (aK G s1)] : List Value).toArray = args at hts hend ⊢
  unfold f6_isS at hf
  refine lv_aload_n hx hb dX6_is_0 rfl (lv_at hl 0 rfl) ?_
  refine n_geti (v := i_token) hx hb hts hown hG hR gFi_X6_43_10 sh_o.1 e_i_token dX6_is_1 ?_
  refine lv_iconst (v := 1) hx hb dX6_is_4 li_1 ?_
  refine lv_icmp_ne (tgt := 19) hx hb dX6_is_5 (by decide) (fun c1 => ?_) (fun c1 => ?_)
  · have hf := ite_f c1 hf
    refine lv_iconst (v := 0) hx hb dX6_is_19 li_0 ?_
    obtain rfl := some_i hf
    exact hend _ _ _ _ dX6_is_20 nz_0 hR hS
  · have hf := ite_t c1 hf
    refine lv_aload_n hx hb dX6_is_8 rfl (lv_at hl 0 rfl) ?_
    refine n_geti (v := i_many) hx hb hts hown hG hR gFi_X6_64_10 sh_o.1 e_i_many dX6_is_9 ?_
    refine lv_aload_n hx hb dX6_is_12 rfl (lv_at hl 1 rfl) ?_
    refine g_slen (R := ({ frames := 4, cells := 0, slots := 0, locals := 85 } : Room)) (rest := [.int i_many]) ⟨hx, hb, hml, hown, hts⟩ hG hR hW hS hs_1 ⟨callB_of 0 hts (lw_meth q887) rfl rfl rfl (hts _ q119) (hts _ q884) (by decide +kernel) ⟨Nat.le_of_ble_eq_true rfl, Nat.le_of_ble_eq_true rfl⟩, hts _ q885, hts _ q886⟩ hl.1 (Nat.le_of_ble_eq_true rfl) dX6_is_13 ⟨Nat.le_refl _, Nat.le_refl _⟩ (fun H locs hR hS => ?_)
    refine lv_icmp_eq (tgt := 21) hx hb dX6_is_16 (by decide) (fun c2 => ?_) (fun c2 => ?_)
    · have hf := ite_t c2 hf
      refine lv_iconst (v := 0) hx hb dX6_is_21 li_0 ?_
      refine lv_istore_n (lv' := [(2, .int (0 : Int32)), (0, .ref o), (1, .ref (aK G s1))]) hx hb dX6_is_22 rfl hl (by decide) rfl (fun ls hl => ?_)
      obtain ⟨rl3, hw3, hfo3⟩ := bind_s hf
      have hx3_0 : ∀ (x3_0 : Int32), f6_isS_e3_0 x3_0 = some out → ∀ (pc : Nat) (H : Heap) (locs : List Loc) (ls : Array Slot), decode cX6_is pc = .ok (.ireturn, 1) → narrow .boolean (.int x3_0) = .int x3_0 → RS G K I J X A B Q H → va_S (gA G) s.heap H locs → W p l e ({ frames := 4, cells := 0, slots := 0, locals := 85 } : Room) s m args below meth c H locs 0 0 Z (F0 m pc ls [.int x3_0]) := by
        intro x3_0 hf pc H locs ls hd hz hR hS
        unfold f6_isS_e3_0 at hf
        obtain rfl := some_i hf
        exact hend _ _ _ _ hd hz hR hS
      refine whl_walk (P := fun (s3 : Int32) => ∀ (H : Heap) (locs : List Loc) (ls : Array Slot), RS G K I J X A B Q H → va_S (gA G) s.heap H locs → lv_has ls 3 [(0, .ref o), (1, .ref (aK G s1)), (2, .int s3)] → W p l e ({ frames := 4, cells := 0, slots := 0, locals := 85 } : Room) s m args below meth c H locs 0 0 Z (F0 m 23 ls [])) (r := rl3) ?_ FU _ hw3 _ _ _ hR hS (lv_sub hl [1, 2, 0] rfl)
      clear hR hS hl hf
      intro s3 o3 hf hk3 H locs ls hR hS hl
      obtain ⟨w3_2, rfl⟩ : ∃ z, z = s3 := ⟨_, rfl⟩
      have hf : f6_isS_s3 s1 i_at i_many a_h_tape w3_2 = some o3 := hf
      have hR : RS G K I J X A B Q H := hR
      have hl : lv_has ls 3 [(0, .ref o), (1, .ref (aK G s1)), (2, .int w3_2)] := hl
      unfold f6_isS_s3 at hf
      refine lv_iload_n hx hb dX6_is_23 rfl (lv_at hl 2 rfl) ?_
      refine lv_aload_n hx hb dX6_is_24 rfl (lv_at hl 0 rfl) ?_
      refine n_geti (v := i_many) hx hb hts hown hG hR gFi_X6_64_10 sh_o.1 e_i_many dX6_is_25 ?_
      refine lv_icmp_ge (tgt := 61) hx hb dX6_is_28 (by decide) (fun c4 => ?_) (fun c4 => ?_)
      · have hf := ite_t c4 hf
        refine lv_iconst (v := 1) hx hb dX6_is_61 li_1 ?_
        obtain rfl := some_i hf
        replace hk3 : _ = rl3 := hk3
        subst hk3
        exact hx3_0 (1 : Int32) hfo3 _ _ _ _ dX6_is_62 nz_1 hR hS
      · have hf := ite_f c4 hf
        refine lv_aload_n hx hb dX6_is_31 rfl (lv_at hl 0 rfl) ?_
        refine g_getr (b := h) hx hb hts hown hG hR gFx_X6_3_10 sh_o.1 x_o_thisR dX6_is_32 ?_
        refine g_getr (b := (h + 1)) hx hb hts hown hG hR gFx_X6_28_0 sh_h.1 ((sh_h.2 0 _ rfl).2) dX6_is_35 ?_
        refine lv_aload_n hx hb dX6_is_38 rfl (lv_at hl 0 rfl) ?_
        refine n_geti (v := i_at) hx hb hts hown hG hR gFi_X6_40_10 sh_o.1 e_i_at dX6_is_39 ?_
        refine lv_iload_n hx hb dX6_is_42 rfl (lv_at hl 2 rfl) ?_
        obtain ⟨v5, ev5, hf⟩ := lt_some hf
        refine n_iadd hx hb ev5 dX6_is_43 ?_
        obtain ⟨c6, hf⟩ := gd_some hf
        obtain ⟨v7, ev7, hf⟩ := lt_some hf
        refine n_bald (x := a_h_tape) hx hb hG hR k_a_h_tape c6 e_a_h_tape ev7 dX6_is_44 ?_
        refine lv_aload_n hx hb dX6_is_45 rfl (lv_at hl 1 rfl) ?_
        refine lv_iload_n hx hb dX6_is_46 rfl (lv_at hl 2 rfl) ?_
        obtain ⟨c8, hf⟩ := gd_some hf
        refine g_scha (R := ({ frames := 4, cells := 0, slots := 0, locals := 85 } : Room)) (rest := [.int v7]) ⟨hx, hb, hml, hown, hts⟩ hG hR hW hS hs_1 c8 ⟨callB_of 1 hts (lw_meth q897) rfl rfl rfl (hts _ q119) (hts _ q894) (by decide +kernel) ⟨Nat.le_of_ble_eq_true rfl, Nat.le_of_ble_eq_true rfl⟩, hts _ q895, hts _ q896⟩ hl.1 (Nat.le_of_ble_eq_true rfl) dX6_is_47 ⟨Nat.le_refl _, Nat.le_refl _⟩ (fun H locs hR hS => ?_)
        refine lv_icmp_eq (tgt := 55) hx hb dX6_is_50 (by decide) (fun c9 => ?_) (fun c9 => ?_)
        · have hf := ite_t c9 hf
          obtain ⟨v10, ev10, hf⟩ := lt_some hf
          refine lv_iinc (k := 2) (v := v10) (lv' := [(2, .int v10), (0, .ref o), (1, .ref (aK G s1))]) hx hb dX6_is_55 hl rfl (by rw [ev10]; rfl) (by decide) rfl (fun ls hl => ?_)
          refine lv_goto (tgt := 23) hx hb dX6_is_58 (by decide) ?_
          obtain rfl := some_i hf
          exact hk3 _ _ _ hR hS (lv_sub hl [1, 2, 0] rfl)
        · have hf := ite_f c9 hf
          refine lv_iconst (v := 0) hx hb dX6_is_53 li_0 ?_
          obtain rfl := some_i hf
          replace hk3 : _ = rl3 := hk3
          subst hk3
          exact hx3_0 (0 : Int32) hfo3 _ _ _ _ dX6_is_54 nz_0 hR hS
    · have hf := ite_f c2 hf
      refine lv_iconst (v := 0) hx hb dX6_is_19 li_0 ?_
      obtain rfl := some_i hf
      exact hend _ _ _ _ dX6_is_20 nz_0 hR hS
noncomputable def f6_findS_e1_0 (x1_0 : Int32) : Option (Int32) :=
  some x1_0

noncomputable def f6_findS_e1_1 (x1_1 : Int32) : Option (Int32) :=
  some x1_1

noncomputable def f6_findS_s1 (n1 : Nat) (b1 : Nat) (i_at : Int32) (i_token : Int32) (i_many : Int32) (a_h_tape : Nat → Int32) (w1_2 : Int32) : Option ((Int32) ⊕ ((Int32) ⊕ (Int32))) :=
  if (Int32.ofNat n1) ≤ w1_2 then
    some (.inr (.inr (-1 : Int32)))
  else
    gd (inb w1_2 n1) <|
    (f6_isS (b1 + w1_2.toNatClampNeg) i_at i_token i_many a_h_tape).bind fun rr4 =>
    if rr4 = 0 then
      lt (w1_2 + (1 : Int32)) fun v6 =>
      some (.inl v6)
    else
      some (.inr (.inl w1_2))

noncomputable def f6_findS (n1 : Nat) (b1 : Nat) (i_at : Int32) (i_token : Int32) (i_many : Int32) (a_h_tape : Nat → Int32) : Option (Int32) :=
  (whl (fun (s1 : Int32) => f6_findS_s1 n1 b1 i_at i_token i_many a_h_tape s1) FU (0 : Int32)).bind fun rl1 =>
  Sum.elim (f6_findS_e1_0) (f6_findS_e1_1) rl1
set_option maxHeartbeats 4000000 in
theorem m6_findS (l : Launch) (G : gG) (K : gK) (I : gI) (J : gJ) (X : gX) (A : gI) (B : gJ) (Q : gX) (o : Nat) (h : Nat) (sh_o : Sh K X o 10 rows10) (sh_h : Sh K X h 0 rows0) (x_o_thisR : X 1007 o = some h) (r1 : Nat) (n1 : Nat) (b1 : Nat) (k_r1 : K r1 = some (.inr (8, n1))) (hb_1 : b1 + n1 ≤ 29) (hq_1 : ∀ j, j < n1 → Q r1 j = some (aK G (b1 + j))) (i_at : Int32) (i_token : Int32) (i_many : Int32) (a_h_tape : Nat → Int32) (e_i_at : I 1002 o = i_at) (e_i_token : I 1003 o = i_token) (e_i_many : I 1005 o = i_many) (e_a_h_tape : A (h + 1) = a_h_tape) (out : Int32) (hf : f6_findS n1 b1 i_at i_token i_many a_h_tape = some out) : GMetX l yX6_find cX6_find 3 (some .int) (5) (107) G [.ref o, .ref r1] K I J X A B Q (.inr (some (.int out))) K I J X A B Q 0 0 := by
  refine GMetX.of (y := yX6_find) rfl (Nat.le_of_ble_eq_true rfl) rfl ?_
  intro p e s m below meth c ls hx hb hr hml hlocks hts hown hname ht hG hR hW hl
  have hown : s.vm.findClass RX6 = some m.cls := hown
  have k_a_h_tape : K (h + 1) = some (.inr (2, 740)) := (sh_h.2 0 _ rfl).1
  have hR : RS G K I J X A B Q s.heap := hR.to rfl rfl rfl rfl rfl rfl
  have hS : va_S (gA G) s.heap s.heap [] := va_S.rf
  have hend : ∀ (pc : Nat) (H : Heap) (locs : List Loc) (ls : Array Slot), decode cX6_find pc = .ok (.ireturn, 1) → RS G K I J X A B Q H → va_S (gA G) s.heap H locs → W p l e ({ frames := 5, cells := 0, slots := 0, locals := 107 } : Room) s m ([.ref o, .ref r1] : List Value).toArray below meth c H locs 0 0 (vx_MQ below (xQ G (.inr (some (.int out))) K I J X A B Q) (xX G (.inr (some (.int out))) K I J X A B Q) ([.ref o, .ref r1] : List Value).toArray s 0 0 (gA G)) (F0 m pc ls [.int out]) := fun pc H locs ls hd hR hS => x_nret hx hb hr rfl hlocks hG hR hS rfl hd
  generalize vx_MQ below (xQ G (.inr (some (.int out))) K I J X A B Q) (xX G (.inr (some (.int out))) K I J X A B Q) ([.ref o, .ref r1] : List Value).toArray s 0 0 (gA G) = Z at hend ⊢
  generalize ([.ref o, .ref r1] : List Value).toArray = args at hts hend ⊢
  unfold f6_findS at hf
  refine lv_iconst (v := 0) hx hb dX6_find_0 li_0 ?_
  refine lv_istore_n (lv' := [(2, .int (0 : Int32)), (0, .ref o), (1, .ref r1)]) hx hb dX6_find_1 rfl hl (by decide) rfl (fun ls hl => ?_)
  obtain ⟨rl1, hw1, hfo1⟩ := bind_s hf
  have hx1_0 : ∀ (x1_0 : Int32), f6_findS_e1_0 x1_0 = some out → ∀ (H : Heap) (locs : List Loc) (ls : Array Slot), RS G K I J X A B Q H → va_S (gA G) s.heap H locs → lv_has ls 3 [(0, .ref o), (2, .int x1_0)] → W p l e ({ frames := 5, cells := 0, slots := 0, locals := 107 } : Room) s m args below meth c H locs 0 0 Z (F0 m 18 ls []) := by
    intro x1_0 hf H locs ls hR hS hl
    unfold f6_findS_e1_0 at hf
    refine lv_iload_n hx hb dX6_find_18 rfl (lv_at hl 1 rfl) ?_
    obtain rfl := some_i hf
    exact hend _ _ _ _ dX6_find_19 hR hS
  have hx1_1 : ∀ (x1_1 : Int32), f6_findS_e1_1 x1_1 = some out → ∀ (pc : Nat) (H : Heap) (locs : List Loc) (ls : Array Slot), decode cX6_find pc = .ok (.ireturn, 1) → RS G K I J X A B Q H → va_S (gA G) s.heap H locs → W p l e ({ frames := 5, cells := 0, slots := 0, locals := 107 } : Room) s m args below meth c H locs 0 0 Z (F0 m pc ls [.int x1_1]) := by
    intro x1_1 hf pc H locs ls hd hR hS
    unfold f6_findS_e1_1 at hf
    obtain rfl := some_i hf
    exact hend _ _ _ _ hd hR hS
  refine whl_walk (P := fun (s1 : Int32) => ∀ (H : Heap) (locs : List Loc) (ls : Array Slot), RS G K I J X A B Q H → va_S (gA G) s.heap H locs → lv_has ls 3 [(0, .ref o), (1, .ref r1), (2, .int s1)] → W p l e ({ frames := 5, cells := 0, slots := 0, locals := 107 } : Room) s m args below meth c H locs 0 0 Z (F0 m 2 ls [])) (r := rl1) ?_ FU _ hw1 _ _ _ hR hS (lv_sub hl [1, 2, 0] rfl)
  clear hR hS hl hf
  intro s1 o1 hf hk1 H locs ls hR hS hl
  obtain ⟨w1_2, rfl⟩ : ∃ z, z = s1 := ⟨_, rfl⟩
  have hf : f6_findS_s1 n1 b1 i_at i_token i_many a_h_tape w1_2 = some o1 := hf
  have hR : RS G K I J X A B Q H := hR
  have hl : lv_has ls 3 [(0, .ref o), (1, .ref r1), (2, .int w1_2)] := hl
  unfold f6_findS_s1 at hf
  refine lv_iload_n hx hb dX6_find_2 rfl (lv_at hl 2 rfl) ?_
  refine lv_aload_n hx hb dX6_find_3 rfl (lv_at hl 1 rfl) ?_
  refine g_alen hx hb hG hR k_r1 (by decide) rfl dX6_find_4 ?_
  refine lv_icmp_ge (tgt := 26) hx hb dX6_find_5 (by decide) (fun c2 => ?_) (fun c2 => ?_)
  · have hf := ite_t c2 hf
    refine lv_iconst (v := -1) hx hb dX6_find_26 li_m1 ?_
    obtain rfl := some_i hf
    replace hk1 : _ = rl1 := hk1
    subst hk1
    exact hx1_1 (-1 : Int32) (el_r hfo1) _ _ _ _ dX6_find_27 hR hS
  · have hf := ite_f c2 hf
    refine lv_aload_n hx hb dX6_find_8 rfl (lv_at hl 0 rfl) ?_
    refine lv_aload_n hx hb dX6_find_9 rfl (lv_at hl 1 rfl) ?_
    refine lv_iload_n hx hb dX6_find_10 rfl (lv_at hl 2 rfl) ?_
    obtain ⟨c3, hf⟩ := gd_some hf
    refine g_aaldr (b := aK G (b1 + w1_2.toNatClampNeg)) hx hb hG hR (t := 4) k_r1 (by decide) c3 (hq_1 _ (inb_lt c3)) dX6_find_11 ?_
    obtain ⟨rr4, hrr4, hf⟩ := bind_s hf
    refine x0_gor (vx_runU (As := [.ref (aK G (b1 + w1_2.toNatClampNeg))]) (rest := []) (b := o) ⟨hx, hb, hml, hown, hts⟩ (m6_isS l G K I J X A B Q o h sh_o sh_h x_o_thisR (b1 + w1_2.toNatClampNeg) (Nat.lt_of_lt_of_le (Nat.add_lt_add_left (inb_lt c3) _) hb_1) i_at i_token i_many a_h_tape e_i_at e_i_token e_i_many e_a_h_tape rr4 hrr4) (va_cwU (x := ⟨"PailRow$Reader", "is", "(Ljava/lang/String;)Z"⟩) (owner := "PailRow$Reader") 1 hts gu_X6_76_10 rfl rfl rfl rfl ⟨by decide, by decide, (hd_X6_is.2).2.2⟩ ⟨Nat.le_of_ble_eq_true rfl, Nat.le_of_ble_eq_true rfl⟩) (x_preV hG hR hW hS sh_o.1 rfl) rfl rfl hl.1 rfl (lv_room (Nat.le_of_ble_eq_true rfl)) dX6_find_12 ⟨Nat.le_refl _, Nat.le_refl _⟩) hS (fun H locs hR hS => ?_)
    refine lv_if_eq (tgt := 20) hx hb dX6_find_15 (by decide) (fun c5 => ?_) (fun c5 => ?_)
    · have hf := ite_t c5 hf
      obtain ⟨v6, ev6, hf⟩ := lt_some hf
      refine lv_iinc (k := 2) (v := v6) (lv' := [(2, .int v6), (0, .ref o), (1, .ref r1)]) hx hb dX6_find_20 hl rfl (by rw [ev6]; rfl) (by decide) rfl (fun ls hl => ?_)
      refine lv_goto (tgt := 2) hx hb dX6_find_23 (by decide) ?_
      obtain rfl := some_i hf
      exact hk1 _ _ _ hR hS (lv_sub hl [1, 2, 0] rfl)
    · have hf := ite_f c5 hf
      obtain rfl := some_i hf
      replace hk1 : _ = rl1 := hk1
      subst hk1
      exact hx1_0 w1_2 (el_l hfo1) _ _ _ hR hS (lv_sub hl [0, 2] rfl)
noncomputable def f6_wrongS (p1 : Int32) (i_h2_kind : Int32) (i_h2_place : Int32) (i_at : Int32) : Option (Int32 × Int32) :=
  some (p1, i_at)
set_option maxHeartbeats 4000000 in
theorem m6_wrongS (l : Launch) (G : gG) (K : gK) (I : gI) (J : gJ) (X : gX) (A : gI) (B : gJ) (Q : gX) (o : Nat) (h : Nat) (sh_o : Sh K X o 10 rows10) (sh_h : Sh K X h 0 rows0) (sh_h2 : K (h + 2) = some (.inl 1)) (x_o_thisR : X 1007 o = some h) (x_h_broken : X 4 h = some (h + 2)) (p1 : Int32) (i_h2_kind : Int32) (i_h2_place : Int32) (i_at : Int32) (e_i_h2_kind : I 106 (h + 2) = i_h2_kind) (e_i_h2_place : I 107 (h + 2) = i_h2_place) (e_i_at : I 1002 o = i_at) (out : Int32 × Int32) (hf : f6_wrongS p1 i_h2_kind i_h2_place i_at = some out) : GMet l yX6_wrong cX6_wrong 2 (some (.object "PailRow$Fault")) (0) (0) G [.ref o, .int p1] K I J X A B Q (some (.ref (h + 2))) K (ov I [(106, (h + 2), out.1), (107, (h + 2), out.2)]) J X A B Q 0 0 := by
  refine GMet.of (y := yX6_wrong) rfl (Nat.le_of_ble_eq_true rfl) rfl ?_
  intro p e s m below meth c ls hx hb hr hml hlocks hts hown hname hG hR hl
  have hown : s.vm.findClass RX6 = some m.cls := hown
  have hR : RS G K (ov I [(106, (h + 2), i_h2_kind), (107, (h + 2), i_h2_place)]) J X A B Q s.heap := hR.to (Eq.symm (ov_sc e_i_h2_kind (ov_sc e_i_h2_place rfl))) rfl rfl rfl rfl rfl
  have hS : va_S (gA G) s.heap s.heap [] := va_S.rf
  have hend : ∀ (pc : Nat) (H : Heap) (locs : List Loc) (ls : Array Slot), decode cX6_wrong pc = .ok (.areturn, 1) → RS G K (ov I [(106, (h + 2), out.1), (107, (h + 2), out.2)]) J X A B Q H → va_S (gA G) s.heap H locs → W p l e ({ frames := 0, cells := 0, slots := 0, locals := 0 } : Room) s m ([.ref o, .int p1] : List Value).toArray below meth c H locs 0 0 (MQ below (gQ G (some (.ref (h + 2))) K (ov I [(106, (h + 2), out.1), (107, (h + 2), out.2)]) J X A B Q) ([.ref o, .int p1] : List Value).toArray s 0 0 (gA G)) (F0 m pc ls [.ref (h + 2)]) := fun pc H locs ls hd hR hS => g_aret (v := some (h + 2)) hx hb hr (Or.inl ⟨_, rfl⟩) hlocks hG hR hS rfl hd
  generalize MQ below (gQ G (some (.ref (h + 2))) K (ov I [(106, (h + 2), out.1), (107, (h + 2), out.2)]) J X A B Q) ([.ref o, .int p1] : List Value).toArray s 0 0 (gA G) = Z at hend ⊢
  generalize ([.ref o, .int p1] : List Value).toArray = args at hts hend ⊢
  unfold f6_wrongS at hf
  refine lv_aload_n hx hb dX6_wrong_0 rfl (lv_at hl 0 rfl) ?_
  refine g_getr (b := h) hx hb hts hown hG hR gFx_X6_3_10 sh_o.1 x_o_thisR dX6_wrong_1 ?_
  refine g_getr (b := (h + 2)) hx hb hts hown hG hR gFx_X6_109_0 sh_h.1 x_h_broken dX6_wrong_4 ?_
  refine lv_iload_n hx hb dX6_wrong_7 rfl (lv_at hl 1 rfl) ?_
  refine n_puti (li' := [(106, (h + 2), p1), (107, (h + 2), i_h2_place)]) hx hb hts hown hG hR hS gPi_X6_113_1 sh_h2 0 rfl rfl rfl dX6_wrong_8 (fun H locs hR hS => ?_)
  refine lv_aload_n hx hb dX6_wrong_11 rfl (lv_at hl 0 rfl) ?_
  refine g_getr (b := h) hx hb hts hown hG hR gFx_X6_3_10 sh_o.1 x_o_thisR dX6_wrong_12 ?_
  refine g_getr (b := (h + 2)) hx hb hts hown hG hR gFx_X6_109_0 sh_h.1 x_h_broken dX6_wrong_15 ?_
  refine lv_aload_n hx hb dX6_wrong_18 rfl (lv_at hl 0 rfl) ?_
  refine n_geti (v := i_at) hx hb hts hown hG hR gFi_X6_40_10 sh_o.1 ((congrFun (ov_no rfl) _).trans e_i_at) dX6_wrong_19 ?_
  refine n_puti (li' := [(106, (h + 2), p1), (107, (h + 2), i_at)]) hx hb hts hown hG hR hS gPi_X6_118_1 sh_h2 1 rfl rfl rfl dX6_wrong_22 (fun H locs hR hS => ?_)
  refine lv_aload_n hx hb dX6_wrong_25 rfl (lv_at hl 0 rfl) ?_
  refine g_getr (b := h) hx hb hts hown hG hR gFx_X6_3_10 sh_o.1 x_o_thisR dX6_wrong_26 ?_
  refine g_getr (b := (h + 2)) hx hb hts hown hG hR gFx_X6_109_0 sh_h.1 x_h_broken dX6_wrong_29 ?_
  obtain rfl := some_i hf
  exact hend _ _ _ _ dX6_wrong_32 hR hS
noncomputable def f6_mustS (p1 : Int32) (p2 : Int32) (i_h2_kind : Int32) (i_h2_place : Int32) (i_at : Int32) : Option ((Option Unit) × Int32 × Int32) :=
  if p1 = 0 then
    (f6_wrongS p2 i_h2_kind i_h2_place i_at).bind fun rr2 =>
    some (none, rr2.1, rr2.2)
  else
    some ((some ()), i_h2_kind, i_h2_place)
set_option maxHeartbeats 4000000 in
theorem m6_mustS (l : Launch) (G : gG) (K : gK) (I : gI) (J : gJ) (X : gX) (A : gI) (B : gJ) (Q : gX) (o : Nat) (h : Nat) (sh_o : Sh K X o 10 rows10) (sh_h : Sh K X h 0 rows0) (sh_h2 : K (h + 2) = some (.inl 1)) (x_o_thisR : X 1007 o = some h) (x_h_broken : X 4 h = some (h + 2)) (p1 : Int32) (p2 : Int32) (i_h2_kind : Int32) (i_h2_place : Int32) (i_at : Int32) (e_i_h2_kind : I 106 (h + 2) = i_h2_kind) (e_i_h2_place : I 107 (h + 2) = i_h2_place) (e_i_at : I 1002 o = i_at) (out : (Option Unit) × Int32 × Int32) (hf : f6_mustS p1 p2 i_h2_kind i_h2_place i_at = some out) : GMetX l yX6_must cX6_must 3 none (1) (21) G [.ref o, .int p1, .int p2] K I J X A B Q (xo "PailRow$Fault" (h + 2) (Option.map (fun _ => none) out.1)) K (ov I [(106, (h + 2), out.2.1), (107, (h + 2), out.2.2)]) J X A B Q 0 0 := by
  refine GMetX.of (y := yX6_must) rfl (Nat.le_of_ble_eq_true rfl) rfl ?_
  intro p e s m below meth c ls hx hb hr hml hlocks hts hown hname ht hG hR hW hl
  have hown : s.vm.findClass RX6 = some m.cls := hown
  have hR : RS G K (ov I [(106, (h + 2), i_h2_kind), (107, (h + 2), i_h2_place)]) J X A B Q s.heap := hR.to (Eq.symm (ov_sc e_i_h2_kind (ov_sc e_i_h2_place rfl))) rfl rfl rfl rfl rfl
  have hS : va_S (gA G) s.heap s.heap [] := va_S.rf
  have hend : ∀ (v : Unit), out.1 = some v → ∀ (pc : Nat) (H : Heap) (locs : List Loc) (ls : Array Slot), decode cX6_must pc = .ok (.return_, 1) → RS G K (ov I [(106, (h + 2), out.2.1), (107, (h + 2), out.2.2)]) J X A B Q H → va_S (gA G) s.heap H locs → W p l e ({ frames := 1, cells := 0, slots := 0, locals := 21 } : Room) s m ([.ref o, .int p1, .int p2] : List Value).toArray below meth c H locs 0 0 (vx_MQ below (xQ G (xo "PailRow$Fault" (h + 2) (Option.map (fun _ => none) out.1)) K (ov I [(106, (h + 2), out.2.1), (107, (h + 2), out.2.2)]) J X A B Q) (xX G (xo "PailRow$Fault" (h + 2) (Option.map (fun _ => none) out.1)) K (ov I [(106, (h + 2), out.2.1), (107, (h + 2), out.2.2)]) J X A B Q) ([.ref o, .int p1, .int p2] : List Value).toArray s 0 0 (gA G)) (F0 m pc ls []) := fun v hv pc H locs ls hd hR hS => x_vret hx hb hr hlocks hG hR hS (by rw [hv]; rfl) hd
  have hthr : out.1 = none → ∀ (pc : Nat) (H : Heap) (locs : List Loc) (ls : Array Slot) (rest : List Value), RS G K (ov I [(106, (h + 2), out.2.1), (107, (h + 2), out.2.2)]) J X A B Q H → va_S (gA G) s.heap H locs → vx_W p l e ({ frames := 1, cells := 0, slots := 0, locals := 21 } : Room) s m ([.ref o, .int p1, .int p2] : List Value).toArray below meth c H locs 0 0 (vx_MQ below (xQ G (xo "PailRow$Fault" (h + 2) (Option.map (fun _ => none) out.1)) K (ov I [(106, (h + 2), out.2.1), (107, (h + 2), out.2.2)]) J X A B Q) (xX G (xo "PailRow$Fault" (h + 2) (Option.map (fun _ => none) out.1)) K (ov I [(106, (h + 2), out.2.1), (107, (h + 2), out.2.2)]) J X A B Q) ([.ref o, .int p1, .int p2] : List Value).toArray s 0 0 (gA G)) (F0 m pc ls rest) (h + 2) := fun hn pc H locs ls rest hR hS => x_out (ci := 1) ht hlocks hG hR hS sh_h2 rfl (by rw [hn]; rfl)
  generalize vx_MQ below (xQ G (xo "PailRow$Fault" (h + 2) (Option.map (fun _ => none) out.1)) K (ov I [(106, (h + 2), out.2.1), (107, (h + 2), out.2.2)]) J X A B Q) (xX G (xo "PailRow$Fault" (h + 2) (Option.map (fun _ => none) out.1)) K (ov I [(106, (h + 2), out.2.1), (107, (h + 2), out.2.2)]) J X A B Q) ([.ref o, .int p1, .int p2] : List Value).toArray s 0 0 (gA G) = Z at hend hthr ⊢
  generalize ([.ref o, .int p1, .int p2] : List Value).toArray = args at hts hend hthr ⊢
  unfold f6_mustS at hf
  refine lv_iload_n hx hb dX6_must_0 rfl (lv_at hl 1 rfl) ?_
  refine lv_if_ne (tgt := 10) hx hb dX6_must_1 (by decide) (fun c1 => ?_) (fun c1 => ?_)
  · have hf := ite_f c1 hf
    obtain rfl := some_i hf
    exact hend _ rfl _ _ _ _ dX6_must_10 hR hS
  · have hf := ite_t c1 hf
    refine lv_aload_n hx hb dX6_must_4 rfl (lv_at hl 0 rfl) ?_
    refine lv_iload_n hx hb dX6_must_5 rfl (lv_at hl 2 rfl) ?_
    obtain ⟨rr2, hrr2, hf⟩ := bind_s hf
    refine g0_cU (rm := (0, 0)) (As := [.int p2]) (rest := []) ⟨hx, hb, hml, hown, hts⟩ hG hR hS (m6_wrongS l G K (ov I [(106, (h + 2), i_h2_kind), (107, (h + 2), i_h2_place)]) J X A B Q o h sh_o sh_h sh_h2 x_o_thisR x_h_broken p2 i_h2_kind i_h2_place i_at (ov_get 0 rfl rfl) (ov_get 1 rfl rfl) ((congrFun (ov_no rfl) _).trans e_i_at) rr2 hrr2) (va_cwU (x := ⟨"PailRow$Reader", "wrong", "(I)LPailRow$Fault;"⟩) (owner := "PailRow$Reader") 1 hts gu_X6_121_10 rfl rfl rfl rfl ⟨by decide, by decide, (hd_X6_wrong.2).2.2⟩ ⟨Nat.le_of_ble_eq_true rfl, Nat.le_of_ble_eq_true rfl⟩) sh_o.1 rfl rfl hl.1 (Nat.le_of_ble_eq_true rfl) dX6_must_6 ⟨Nat.le_refl _, Nat.le_refl _⟩ rfl (fun H locs hR hS => ?_)
    have hR : RS G K (ov I [(106, (h + 2), rr2.1), (107, (h + 2), rr2.2)]) J X A B Q H := hR.to (ov_merge (l := [(106, (h + 2), i_h2_kind), (107, (h + 2), i_h2_place)]) rfl [0, 1] [(106, (h + 2), rr2.1), (107, (h + 2), rr2.2)] rfl rfl) rfl rfl rfl rfl rfl
    refine vx_athrow hx hb dX6_must_9 ?_
    obtain rfl := some_i hf
    exact hthr rfl _ _ _ _ _ hR hS
noncomputable def f6_is_2S_j20  : Option (Int32) :=
  some (0 : Int32)

noncomputable def f6_is_2S (p1 : Int32) (i_token : Int32) (i_value : Int32) : Option (Int32) :=
  if i_token = (3 : Int32) then
    if i_value = p1 then
      some (1 : Int32)
    else
      f6_is_2S_j20
  else
    f6_is_2S_j20
set_option maxHeartbeats 4000000 in
theorem m6_is_2S (l : Launch) (G : gG) (K : gK) (I : gI) (J : gJ) (X : gX) (A : gI) (B : gJ) (Q : gX) (o : Nat) (h : Nat) (sh_o : Sh K X o 10 rows10) (sh_h : Sh K X h 0 rows0) (x_o_thisR : X 1007 o = some h) (p1 : Int32) (i_token : Int32) (i_value : Int32) (e_i_token : I 1003 o = i_token) (e_i_value : I 1004 o = i_value) (out : Int32) (hf : f6_is_2S p1 i_token i_value = some out) : GMet l yX6_is_2 cX6_is_2 2 (some .boolean) (0) (0) G [.ref o, .int p1] K I J X A B Q (some (.int out)) K I J X A B Q 0 0 := by
  refine GMet.of (y := yX6_is_2) rfl (Nat.le_of_ble_eq_true rfl) rfl ?_
  intro p e s m below meth c ls hx hb hr hml hlocks hts hown hname hG hR hl
  have hown : s.vm.findClass RX6 = some m.cls := hown
  have hR : RS G K I J X A B Q s.heap := hR.to rfl rfl rfl rfl rfl rfl
  have hS : va_S (gA G) s.heap s.heap [] := va_S.rf
  have hend : ∀ (pc : Nat) (H : Heap) (locs : List Loc) (ls : Array Slot), decode cX6_is_2 pc = .ok (.ireturn, 1) → narrow .boolean (.int out) = .int out → RS G K I J X A B Q H → va_S (gA G) s.heap H locs → W p l e ({ frames := 0, cells := 0, slots := 0, locals := 0 } : Room) s m ([.ref o, .int p1] : List Value).toArray below meth c H locs 0 0 (MQ below (gQ G (some (.int out)) K I J X A B Q) ([.ref o, .int p1] : List Value).toArray s 0 0 (gA G)) (F0 m pc ls [.int out]) := fun pc H locs ls hd hz hR hS => g_zret hx hb hr hlocks hz hG hR hS rfl hd
  generalize MQ below (gQ G (some (.int out)) K I J X A B Q) ([.ref o, .int p1] : List Value).toArray s 0 0 (gA G) = Z at hend ⊢
  generalize ([.ref o, .int p1] : List Value).toArray = args at hts hend ⊢
  unfold f6_is_2S at hf
  refine lv_aload_n hx hb dX6_is_2_0 rfl (lv_at hl 0 rfl) ?_
  refine n_geti (v := i_token) hx hb hts hown hG hR gFi_X6_43_10 sh_o.1 e_i_token dX6_is_2_1 ?_
  refine lv_iconst (v := 3) hx hb dX6_is_2_4 li_3 ?_
  have hj20 : ∀ (_ : Unit), f6_is_2S_j20 = some out → ∀ (H : Heap) (locs : List Loc) (ls : Array Slot), RS G K I J X A B Q H → va_S (gA G) s.heap H locs → lv_has ls 2 [(0, .ref o)] → W p l e ({ frames := 0, cells := 0, slots := 0, locals := 0 } : Room) s m args below meth c H locs 0 0 Z (F0 m 20 ls []) := by
    intro _ hf H locs ls hR hS hl
    unfold f6_is_2S_j20 at hf
    refine lv_iconst (v := 0) hx hb dX6_is_2_20 li_0 ?_
    obtain rfl := some_i hf
    exact hend _ _ _ _ dX6_is_2_21 nz_0 hR hS
  refine lv_icmp_ne (tgt := 20) hx hb dX6_is_2_5 (by decide) (fun c1 => ?_) (fun c1 => ?_)
  · have hf := ite_f c1 hf
    exact hj20 () hf _ _ _ hR hS (lv_sub hl [0] rfl)
  · have hf := ite_t c1 hf
    refine lv_aload_n hx hb dX6_is_2_8 rfl (lv_at hl 0 rfl) ?_
    refine n_geti (v := i_value) hx hb hts hown hG hR gFi_X6_57_10 sh_o.1 e_i_value dX6_is_2_9 ?_
    refine lv_iload_n hx hb dX6_is_2_12 rfl (lv_at hl 1 rfl) ?_
    refine lv_icmp_ne (tgt := 20) hx hb dX6_is_2_13 (by decide) (fun c2 => ?_) (fun c2 => ?_)
    · have hf := ite_f c2 hf
      exact hj20 () hf _ _ _ hR hS (lv_sub hl [0] rfl)
    · have hf := ite_t c2 hf
      refine lv_iconst (v := 1) hx hb dX6_is_2_16 li_1 ?_
      refine lv_goto (tgt := 21) hx hb dX6_is_2_17 (by decide) ?_
      obtain rfl := some_i hf
      exact hend _ _ _ _ dX6_is_2_21 nz_1 hR hS
noncomputable def f6_signS (p1 : Int32) (i_h_size : Int32) (i_h2_kind : Int32) (i_h2_place : Int32) (i_most : Int32) (i_p : Int32) (i_at : Int32) (i_token : Int32) (i_value : Int32) (i_many : Int32) (j_name : Int64) (a_h_tape : Nat → Int32) : Option ((Option Unit) × Int32 × Int32 × Int32 × Int32 × Int32 × Int32 × Int32 × Int64) :=
  (f6_is_2S p1 i_token i_value).bind fun rr1 =>
  (f6_mustS rr1 (1 : Int32) i_h2_kind i_h2_place i_at).bind fun rr2 =>
  tr rr2.1 (some (none, rr2.2.1, rr2.2.2, i_p, i_at, i_token, i_value, i_many, j_name)) fun v3 =>
  (f6_nextS i_h_size i_most i_p i_at i_token i_value i_many j_name a_h_tape).bind fun rr4 =>
  some ((some ()), rr2.2.1, rr2.2.2, rr4.1, rr4.2.1, rr4.2.2.1, rr4.2.2.2.1, rr4.2.2.2.2.1, rr4.2.2.2.2.2)
set_option maxHeartbeats 4000000 in
theorem m6_signS (l : Launch) (G : gG) (K : gK) (I : gI) (J : gJ) (X : gX) (A : gI) (B : gJ) (Q : gX) (o : Nat) (h : Nat) (sh_o : Sh K X o 10 rows10) (sh_h : Sh K X h 0 rows0) (sh_h2 : K (h + 2) = some (.inl 1)) (x_o_thisR : X 1007 o = some h) (x_h_broken : X 4 h = some (h + 2)) (p1 : Int32) (i_h_size : Int32) (i_h2_kind : Int32) (i_h2_place : Int32) (i_most : Int32) (i_p : Int32) (i_at : Int32) (i_token : Int32) (i_value : Int32) (i_many : Int32) (j_name : Int64) (a_h_tape : Nat → Int32) (e_i_h_size : I 2 h = i_h_size) (e_i_h2_kind : I 106 (h + 2) = i_h2_kind) (e_i_h2_place : I 107 (h + 2) = i_h2_place) (e_i_most : I 1000 o = i_most) (e_i_p : I 1001 o = i_p) (e_i_at : I 1002 o = i_at) (e_i_token : I 1003 o = i_token) (e_i_value : I 1004 o = i_value) (e_i_many : I 1005 o = i_many) (e_j_name : J 1006 o = j_name) (e_a_h_tape : A (h + 1) = a_h_tape) (out : (Option Unit) × Int32 × Int32 × Int32 × Int32 × Int32 × Int32 × Int32 × Int64) (hf : f6_signS p1 i_h_size i_h2_kind i_h2_place i_most i_p i_at i_token i_value i_many j_name a_h_tape = some out) : GMetX l yX6_sign cX6_sign 2 none (4) (86) G [.ref o, .int p1] K I J X A B Q (xo "PailRow$Fault" (h + 2) (Option.map (fun _ => none) out.1)) K (ov I [(106, (h + 2), out.2.1), (107, (h + 2), out.2.2.1), (1001, o, out.2.2.2.1), (1002, o, out.2.2.2.2.1), (1003, o, out.2.2.2.2.2.1), (1004, o, out.2.2.2.2.2.2.1), (1005, o, out.2.2.2.2.2.2.2.1)]) (ov J [(1006, o, out.2.2.2.2.2.2.2.2)]) X A B Q 0 0 := by
  refine GMetX.of (y := yX6_sign) rfl (Nat.le_of_ble_eq_true rfl) rfl ?_
  intro p e s m below meth c ls hx hb hr hml hlocks hts hown hname ht hG hR hW hl
  have hown : s.vm.findClass RX6 = some m.cls := hown
  have k_a_h_tape : K (h + 1) = some (.inr (2, 740)) := (sh_h.2 0 _ rfl).1
  have hR : RS G K (ov I [(106, (h + 2), i_h2_kind), (107, (h + 2), i_h2_place), (1001, o, i_p), (1002, o, i_at), (1003, o, i_token), (1004, o, i_value), (1005, o, i_many)]) (ov J [(1006, o, j_name)]) X A B Q s.heap := hR.to (Eq.symm (ov_sc e_i_h2_kind (ov_sc e_i_h2_place (ov_sc e_i_p (ov_sc e_i_at (ov_sc e_i_token (ov_sc e_i_value (ov_sc e_i_many rfl)))))))) (Eq.symm (ov_sc e_j_name rfl)) rfl rfl rfl rfl
  have hS : va_S (gA G) s.heap s.heap [] := va_S.rf
  have hend : ∀ (v : Unit), out.1 = some v → ∀ (pc : Nat) (H : Heap) (locs : List Loc) (ls : Array Slot), decode cX6_sign pc = .ok (.return_, 1) → RS G K (ov I [(106, (h + 2), out.2.1), (107, (h + 2), out.2.2.1), (1001, o, out.2.2.2.1), (1002, o, out.2.2.2.2.1), (1003, o, out.2.2.2.2.2.1), (1004, o, out.2.2.2.2.2.2.1), (1005, o, out.2.2.2.2.2.2.2.1)]) (ov J [(1006, o, out.2.2.2.2.2.2.2.2)]) X A B Q H → va_S (gA G) s.heap H locs → W p l e ({ frames := 4, cells := 0, slots := 0, locals := 86 } : Room) s m ([.ref o, .int p1] : List Value).toArray below meth c H locs 0 0 (vx_MQ below (xQ G (xo "PailRow$Fault" (h + 2) (Option.map (fun _ => none) out.1)) K (ov I [(106, (h + 2), out.2.1), (107, (h + 2), out.2.2.1), (1001, o, out.2.2.2.1), (1002, o, out.2.2.2.2.1), (1003, o, out.2.2.2.2.2.1), (1004, o, out.2.2.2.2.2.2.1), (1005, o, out.2.2.2.2.2.2.2.1)]) (ov J [(1006, o, out.2.2.2.2.2.2.2.2)]) X A B Q) (xX G (xo "PailRow$Fault" (h + 2) (Option.map (fun _ => none) out.1)) K (ov I [(106, (h + 2), out.2.1), (107, (h + 2), out.2.2.1), (1001, o, out.2.2.2.1), (1002, o, out.2.2.2.2.1), (1003, o, out.2.2.2.2.2.1), (1004, o, out.2.2.2.2.2.2.1), (1005, o, out.2.2.2.2.2.2.2.1)]) (ov J [(1006, o, out.2.2.2.2.2.2.2.2)]) X A B Q) ([.ref o, .int p1] : List Value).toArray s 0 0 (gA G)) (F0 m pc ls []) := fun v hv pc H locs ls hd hR hS => x_vret hx hb hr hlocks hG hR hS (by rw [hv]; rfl) hd
  have hthr : out.1 = none → ∀ (pc : Nat) (H : Heap) (locs : List Loc) (ls : Array Slot) (rest : List Value), RS G K (ov I [(106, (h + 2), out.2.1), (107, (h + 2), out.2.2.1), (1001, o, out.2.2.2.1), (1002, o, out.2.2.2.2.1), (1003, o, out.2.2.2.2.2.1), (1004, o, out.2.2.2.2.2.2.1), (1005, o, out.2.2.2.2.2.2.2.1)]) (ov J [(1006, o, out.2.2.2.2.2.2.2.2)]) X A B Q H → va_S (gA G) s.heap H locs → vx_W p l e ({ frames := 4, cells := 0, slots := 0, locals := 86 } : Room) s m ([.ref o, .int p1] : List Value).toArray below meth c H locs 0 0 (vx_MQ below (xQ G (xo "PailRow$Fault" (h + 2) (Option.map (fun _ => none) out.1)) K (ov I [(106, (h + 2), out.2.1), (107, (h + 2), out.2.2.1), (1001, o, out.2.2.2.1), (1002, o, out.2.2.2.2.1), (1003, o, out.2.2.2.2.2.1), (1004, o, out.2.2.2.2.2.2.1), (1005, o, out.2.2.2.2.2.2.2.1)]) (ov J [(1006, o, out.2.2.2.2.2.2.2.2)]) X A B Q) (xX G (xo "PailRow$Fault" (h + 2) (Option.map (fun _ => none) out.1)) K (ov I [(106, (h + 2), out.2.1), (107, (h + 2), out.2.2.1), (1001, o, out.2.2.2.1), (1002, o, out.2.2.2.2.1), (1003, o, out.2.2.2.2.2.1), (1004, o, out.2.2.2.2.2.2.1), (1005, o, out.2.2.2.2.2.2.2.1)]) (ov J [(1006, o, out.2.2.2.2.2.2.2.2)]) X A B Q) ([.ref o, .int p1] : List Value).toArray s 0 0 (gA G)) (F0 m pc ls rest) (h + 2) := fun hn pc H locs ls rest hR hS => x_out (ci := 1) ht hlocks hG hR hS sh_h2 rfl (by rw [hn]; rfl)
  generalize vx_MQ below (xQ G (xo "PailRow$Fault" (h + 2) (Option.map (fun _ => none) out.1)) K (ov I [(106, (h + 2), out.2.1), (107, (h + 2), out.2.2.1), (1001, o, out.2.2.2.1), (1002, o, out.2.2.2.2.1), (1003, o, out.2.2.2.2.2.1), (1004, o, out.2.2.2.2.2.2.1), (1005, o, out.2.2.2.2.2.2.2.1)]) (ov J [(1006, o, out.2.2.2.2.2.2.2.2)]) X A B Q) (xX G (xo "PailRow$Fault" (h + 2) (Option.map (fun _ => none) out.1)) K (ov I [(106, (h + 2), out.2.1), (107, (h + 2), out.2.2.1), (1001, o, out.2.2.2.1), (1002, o, out.2.2.2.2.1), (1003, o, out.2.2.2.2.2.1), (1004, o, out.2.2.2.2.2.2.1), (1005, o, out.2.2.2.2.2.2.2.1)]) (ov J [(1006, o, out.2.2.2.2.2.2.2.2)]) X A B Q) ([.ref o, .int p1] : List Value).toArray s 0 0 (gA G) = Z at hend hthr ⊢
  generalize ([.ref o, .int p1] : List Value).toArray = args at hts hend hthr ⊢
  unfold f6_signS at hf
  refine lv_aload_n hx hb dX6_sign_0 rfl (lv_at hl 0 rfl) ?_
  refine lv_aload_n hx hb dX6_sign_1 rfl (lv_at hl 0 rfl) ?_
  refine lv_iload_n hx hb dX6_sign_2 rfl (lv_at hl 1 rfl) ?_
  obtain ⟨rr1, hrr1, hf⟩ := bind_s hf
  refine g0_cU (rm := (0, 0)) (As := [.int p1]) (rest := [.ref o]) ⟨hx, hb, hml, hown, hts⟩ hG hR hS (m6_is_2S l G K (ov I [(106, (h + 2), i_h2_kind), (107, (h + 2), i_h2_place), (1001, o, i_p), (1002, o, i_at), (1003, o, i_token), (1004, o, i_value), (1005, o, i_many)]) (ov J [(1006, o, j_name)]) X A B Q o h sh_o sh_h x_o_thisR p1 i_token i_value (ov_get 4 rfl rfl) (ov_get 5 rfl rfl) rr1 hrr1) (va_cwU (x := ⟨"PailRow$Reader", "is", "(I)Z"⟩) (owner := "PailRow$Reader") 1 hts gu_X6_125_10 rfl rfl rfl rfl ⟨by decide, by decide, (hd_X6_is_2.2).2.2⟩ ⟨Nat.le_of_ble_eq_true rfl, Nat.le_of_ble_eq_true rfl⟩) sh_o.1 rfl rfl hl.1 (Nat.le_of_ble_eq_true rfl) dX6_sign_3 ⟨Nat.le_refl _, Nat.le_refl _⟩ rfl (fun H locs hR hS => ?_)
  refine lv_iconst (v := 1) hx hb dX6_sign_6 li_1 ?_
  obtain ⟨rr2, hrr2, hf⟩ := bind_s hf
  refine x0_gou (vx_runU (As := [.int rr1, .int (1 : Int32)]) (rest := []) (b := o) ⟨hx, hb, hml, hown, hts⟩ (m6_mustS l G K (ov I [(106, (h + 2), i_h2_kind), (107, (h + 2), i_h2_place), (1001, o, i_p), (1002, o, i_at), (1003, o, i_token), (1004, o, i_value), (1005, o, i_many)]) (ov J [(1006, o, j_name)]) X A B Q o h sh_o sh_h sh_h2 x_o_thisR x_h_broken rr1 (1 : Int32) i_h2_kind i_h2_place i_at (ov_get 0 rfl rfl) (ov_get 1 rfl rfl) (ov_get 3 rfl rfl) rr2 hrr2) (va_cwU (x := ⟨"PailRow$Reader", "must", "(ZI)V"⟩) (owner := "PailRow$Reader") 2 hts gu_X6_127_10 rfl rfl rfl rfl ⟨by decide, by decide, (hd_X6_must.2).2.2⟩ ⟨Nat.le_of_ble_eq_true rfl, Nat.le_of_ble_eq_true rfl⟩) (x_preV hG hR hW hS sh_o.1 rfl) rfl rfl hl.1 rfl (lv_room (Nat.le_of_ble_eq_true rfl)) dX6_sign_7 ⟨Nat.le_refl _, Nat.le_refl _⟩) hS (fun H locs hnv3 hR hS => ?_) (fun v3 H locs hvv3 hR hS => ?_)
  · have hf := tr_n hnv3 hf
    have hR : RS G K (ov I [(106, (h + 2), rr2.2.1), (107, (h + 2), rr2.2.2), (1001, o, i_p), (1002, o, i_at), (1003, o, i_token), (1004, o, i_value), (1005, o, i_many)]) (ov J [(1006, o, j_name)]) X A B Q H := hR.to (ov_merge (l := [(106, (h + 2), i_h2_kind), (107, (h + 2), i_h2_place), (1001, o, i_p), (1002, o, i_at), (1003, o, i_token), (1004, o, i_value), (1005, o, i_many)]) rfl [0, 1] [(106, (h + 2), rr2.2.1), (107, (h + 2), rr2.2.2)] rfl rfl) rfl rfl rfl rfl rfl
    obtain rfl := some_i hf
    exact hthr rfl _ _ _ _ _ hR hS
  have hf := tr_s hvv3 hf
  have hR : RS G K (ov I [(106, (h + 2), rr2.2.1), (107, (h + 2), rr2.2.2), (1001, o, i_p), (1002, o, i_at), (1003, o, i_token), (1004, o, i_value), (1005, o, i_many)]) (ov J [(1006, o, j_name)]) X A B Q H := hR.to (ov_merge (l := [(106, (h + 2), i_h2_kind), (107, (h + 2), i_h2_place), (1001, o, i_p), (1002, o, i_at), (1003, o, i_token), (1004, o, i_value), (1005, o, i_many)]) rfl [0, 1] [(106, (h + 2), rr2.2.1), (107, (h + 2), rr2.2.2)] rfl rfl) rfl rfl rfl rfl rfl
  refine lv_aload_n hx hb dX6_sign_10 rfl (lv_at hl 0 rfl) ?_
  obtain ⟨rr4, hrr4, hf⟩ := bind_s hf
  refine g0_cUv (rm := (3, 65)) (As := []) (rest := []) ⟨hx, hb, hml, hown, hts⟩ hG hR hS (m6_nextS l G K (ov I [(106, (h + 2), rr2.2.1), (107, (h + 2), rr2.2.2), (1001, o, i_p), (1002, o, i_at), (1003, o, i_token), (1004, o, i_value), (1005, o, i_many)]) (ov J [(1006, o, j_name)]) X A B Q o h sh_o sh_h x_o_thisR i_h_size i_most i_p i_at i_token i_value i_many j_name a_h_tape ((congrFun (ov_no rfl) _).trans e_i_h_size) ((congrFun (ov_no rfl) _).trans e_i_most) (ov_get 2 rfl rfl) (ov_get 3 rfl rfl) (ov_get 4 rfl rfl) (ov_get 5 rfl rfl) (ov_get 6 rfl rfl) (ov_get 0 rfl rfl) e_a_h_tape rr4 hrr4) (va_cwU (x := ⟨"PailRow$Reader", "next", "()V"⟩) (owner := "PailRow$Reader") 0 hts gu_X6_22_10 rfl rfl rfl rfl ⟨by decide, by decide, (hd_X6_next.2).2.2⟩ ⟨Nat.le_of_ble_eq_true rfl, Nat.le_of_ble_eq_true rfl⟩) sh_o.1 rfl rfl hl.1 (Nat.le_of_ble_eq_true rfl) dX6_sign_11 ⟨Nat.le_refl _, Nat.le_refl _⟩ rfl (fun H locs hR hS => ?_)
  have hR : RS G K (ov I [(106, (h + 2), rr2.2.1), (107, (h + 2), rr2.2.2), (1001, o, rr4.1), (1002, o, rr4.2.1), (1003, o, rr4.2.2.1), (1004, o, rr4.2.2.2.1), (1005, o, rr4.2.2.2.2.1)]) (ov J [(1006, o, rr4.2.2.2.2.2)]) X A B Q H := hR.to (ov_merge (l := [(106, (h + 2), rr2.2.1), (107, (h + 2), rr2.2.2), (1001, o, i_p), (1002, o, i_at), (1003, o, i_token), (1004, o, i_value), (1005, o, i_many)]) rfl [2, 3, 4, 5, 6] [(1001, o, rr4.1), (1002, o, rr4.2.1), (1003, o, rr4.2.2.1), (1004, o, rr4.2.2.2.1), (1005, o, rr4.2.2.2.2.1)] rfl rfl) (ov_merge (l := [(1006, o, j_name)]) rfl [0] [(1006, o, rr4.2.2.2.2.2)] rfl rfl) rfl rfl rfl rfl
  obtain rfl := some_i hf
  exact hend _ rfl _ _ _ _ dX6_sign_14 hR hS
