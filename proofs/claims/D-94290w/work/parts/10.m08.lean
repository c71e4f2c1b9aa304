/-! the walks of PailRowModel (printed by tools) 8 -/
set_option maxRecDepth 100000
noncomputable def f14_tryHooks_e2_0 (x2_0 : Int32 × (Nat → Int32) × (Nat → Int32)) : Option (Int32 × (Nat → Int32) × (Nat → Int32)) :=
  some x2_0

noncomputable def f14_tryHooks_s2 (q_X14_tryHooks : Int32 → Int32 → Int32 → Int32 → Int32 → (Nat → Int32) → (Nat → Int32) → (Nat → Int32) → Option (Int32 × (Nat → Int32) × (Nat → Int32))) (p1 : Int32) (p2 : Int32) (i_houses : Int32) (a_house : Nat → Int32) (w2_4 : Int32) (w2_i_hookLeast : Int32) (w2_a_hook : Nat → Int32) (w2_a_hookBest : Nat → Int32) : Option ((Int32 × Int32 × (Nat → Int32) × (Nat → Int32)) ⊕ (Int32 × (Nat → Int32) × (Nat → Int32))) :=
  if i_houses ≤ w2_4 then
    some (.inr (w2_i_hookLeast, w2_a_hook, w2_a_hookBest))
  else
    gd (inb w2_4 12) <|
    lt (a_house w2_4.toNatClampNeg) fun v5 =>
    gd (inb p1 6) <|
    lt (upd w2_a_hook p1.toNatClampNeg v5) fun u7 =>
    lt (p1 + (1 : Int32)) fun v8 =>
    lt (w2_4 + (1 : Int32)) fun v9 =>
    (q_X14_tryHooks v8 p2 v9 i_houses w2_i_hookLeast a_house u7 w2_a_hookBest).bind fun rr10 =>
    lt (w2_4 + (1 : Int32)) fun v11 =>
    some (.inl (v11, rr10.1, rr10.2.1, rr10.2.2))

noncomputable def f14_tryHooks_e13_0 (x13_0 : Int32 × (Nat → Int32) × (Nat → Int32)) : Option (Int32 × (Nat → Int32) × (Nat → Int32)) :=
  some x13_0

noncomputable def f14_tryHooks_s13 (p2 : Int32) (a_hook : Nat → Int32) (x12_0 : Int32) (w13_5 : Int32) (w13_a_hookBest : Nat → Int32) : Option ((Int32 × (Nat → Int32)) ⊕ (Int32 × (Nat → Int32) × (Nat → Int32))) :=
  if p2 ≤ w13_5 then
    some (.inr (x12_0, a_hook, w13_a_hookBest))
  else
    gd (inb w13_5 6) <|
    lt (a_hook w13_5.toNatClampNeg) fun v16 =>
    gd (inb w13_5 6) <|
    lt (upd w13_a_hookBest w13_5.toNatClampNeg v16) fun u18 =>
    lt (w13_5 + (1 : Int32)) fun v19 =>
    some (.inl (v19, u18))

noncomputable def f14_tryHooks_j113 (p2 : Int32) (a_hook : Nat → Int32) (a_hookBest : Nat → Int32) (x12_0 : Int32) : Option (Int32 × (Nat → Int32) × (Nat → Int32)) :=
  (whl (fun (s13 : Int32 × (Nat → Int32)) => f14_tryHooks_s13 p2 a_hook x12_0 s13.1 s13.2) FU ((0 : Int32), a_hookBest)).bind fun rl13 =>
  f14_tryHooks_e13_0 rl13

noncomputable def f14_tryHooks_e12_0 (p2 : Int32) (i_hookLeast : Int32) (a_hook : Nat → Int32) (a_hookBest : Nat → Int32) (x12_0 : Int32) : Option (Int32 × (Nat → Int32) × (Nat → Int32)) :=
  if i_hookLeast = (-1 : Int32) then
    f14_tryHooks_j113 p2 a_hook a_hookBest x12_0
  else
    if x12_0 < i_hookLeast then
      f14_tryHooks_j113 p2 a_hook a_hookBest x12_0
    else
      some (i_hookLeast, a_hook, a_hookBest)

noncomputable def f14_tryHooks_j89 (w12_5 : Int32) (j89_4 : Int32) : Option ((Int32 × Int32) ⊕ (Int32)) :=
  lt (w12_5 + (1 : Int32)) fun v24 =>
  some (.inl (j89_4, v24))

noncomputable def f14_tryHooks_e23_0 (w12_4 : Int32) (w12_5 : Int32) (x23_0 : Int32) : Option ((Int32 × Int32) ⊕ (Int32)) :=
  if x23_0 ≤ w12_4 then
    f14_tryHooks_j89 w12_5 w12_4
  else
    f14_tryHooks_j89 w12_5 x23_0

noncomputable def f14_tryHooks_j72 (w23_7 : Int32) (j72_6 : Int32) : Option ((Int32 × Int32) ⊕ (Int32)) :=
  lt (w23_7 + (1 : Int32)) fun v32 =>
  some (.inl (j72_6, v32))

noncomputable def f14_tryHooks_j61 (w23_6 : Int32) (w23_7 : Int32) (j61_8 : Int32) : Option ((Int32 × Int32) ⊕ (Int32)) :=
  if w23_6 ≤ j61_8 then
    f14_tryHooks_j72 w23_7 w23_6
  else
    f14_tryHooks_j72 w23_7 j61_8

noncomputable def f14_tryHooks_s23 (p2 : Int32) (a_house : Nat → Int32) (a_hook : Nat → Int32) (w12_5 : Int32) (w23_6 : Int32) (w23_7 : Int32) : Option ((Int32 × Int32) ⊕ (Int32)) :=
  if p2 ≤ w23_7 then
    some (.inr w23_6)
  else
    gd (inb w12_5 12) <|
    lt (a_house w12_5.toNatClampNeg) fun v28 =>
    gd (inb w23_7 6) <|
    lt (a_hook w23_7.toNatClampNeg) fun v30 =>
    lt (v28 - v30) fun v31 =>
    if 0 ≤ v31 then
      f14_tryHooks_j61 w23_6 w23_7 v31
    else
      lt (-v31) fun v35 =>
      f14_tryHooks_j61 w23_6 w23_7 v35

noncomputable def f14_tryHooks_s12 (p2 : Int32) (i_houses : Int32) (a_house : Nat → Int32) (a_hook : Nat → Int32) (w12_4 : Int32) (w12_5 : Int32) : Option ((Int32 × Int32) ⊕ (Int32)) :=
  if i_houses ≤ w12_5 then
    some (.inr w12_4)
  else
    (whl (fun (s23 : Int32 × Int32) => f14_tryHooks_s23 p2 a_house a_hook w12_5 s23.1 s23.2) FU ((1000 : Int32), (0 : Int32))).bind fun rl23 =>
    f14_tryHooks_e23_0 w12_4 w12_5 rl23

noncomputable def fb14_tryHooks (q_X14_tryHooks : Int32 → Int32 → Int32 → Int32 → Int32 → (Nat → Int32) → (Nat → Int32) → (Nat → Int32) → Option (Int32 × (Nat → Int32) × (Nat → Int32))) (p1 : Int32) (p2 : Int32) (p3 : Int32) (i_houses : Int32) (i_hookLeast : Int32) (a_house : Nat → Int32) (a_hook : Nat → Int32) (a_hookBest : Nat → Int32) : Option (Int32 × (Nat → Int32) × (Nat → Int32)) :=
  if p1 = p2 then
    (whl (fun (s12 : Int32 × Int32) => f14_tryHooks_s12 p2 i_houses a_house a_hook s12.1 s12.2) FU ((0 : Int32), (0 : Int32))).bind fun rl12 =>
    f14_tryHooks_e12_0 p2 i_hookLeast a_hook a_hookBest rl12
  else
    (whl (fun (s2 : Int32 × Int32 × (Nat → Int32) × (Nat → Int32)) => f14_tryHooks_s2 q_X14_tryHooks p1 p2 i_houses a_house s2.1 s2.2.1 s2.2.2.1 s2.2.2.2) FU (p3, i_hookLeast, a_hook, a_hookBest)).bind fun rl2 =>
    f14_tryHooks_e2_0 rl2
noncomputable def fG_X14_tryHooks : Nat → (Int32 → Int32 → Int32 → Int32 → Int32 → (Nat → Int32) → (Nat → Int32) → (Nat → Int32) → Option (Int32 × (Nat → Int32) × (Nat → Int32)))
  | 0 => fun _ _ _ _ _ _ _ _ => none
  | d + 1 => fb14_tryHooks (fG_X14_tryHooks d)
noncomputable def f14_tryHooks (d : Nat) : Int32 → Int32 → Int32 → Int32 → Int32 → (Nat → Int32) → (Nat → Int32) → (Nat → Int32) → Option (Int32 × (Nat → Int32) × (Nat → Int32)) := (fG_X14_tryHooks d)
set_option maxHeartbeats 4000000 in
theorem w14_tryHooks (l : Launch) (d : Nat) (q_X14_tryHooks : Int32 → Int32 → Int32 → Int32 → Int32 → (Nat → Int32) → (Nat → Int32) → (Nat → Int32) → Option (Int32 × (Nat → Int32) × (Nat → Int32))) (ih_X14_tryHooks : ∀ (G : gG) (K : gK) (I : gI) (J : gJ) (X : gX) (A : gI) (B : gJ) (Q : gX) (o : Nat) (shM : Sh K X o 11 rows11) (p1 : Int32) (p2 : Int32) (p3 : Int32) (i_houses : Int32) (i_hookLeast : Int32) (a_house : Nat → Int32) (a_hook : Nat → Int32) (a_hookBest : Nat → Int32) (e_i_houses : I 1161 o = i_houses) (e_i_hookLeast : I 1162 o = i_hookLeast) (e_a_house : A (o + 28) = a_house) (e_a_hook : A (o + 29) = a_hook) (e_a_hookBest : A (o + 30) = a_hookBest) (out : Int32 × (Nat → Int32) × (Nat → Int32)) (hf : q_X14_tryHooks p1 p2 p3 i_houses i_hookLeast a_house a_hook a_hookBest = some out) , GMet l yX14_tryHooks cX14_tryHooks 9 none (d + 0) (d * 28 + 0) G [.ref o, .int p1, .int p2, .int p3] K I J X A B Q none K (ov I [(1162, o, out.1)]) J X (ova A [((o + 28), a_house), ((o + 29), out.2.1), ((o + 30), out.2.2)]) B Q 0 0) : ∀ (G : gG) (K : gK) (I : gI) (J : gJ) (X : gX) (A : gI) (B : gJ) (Q : gX) (o : Nat) (shM : Sh K X o 11 rows11) (p1 : Int32) (p2 : Int32) (p3 : Int32) (i_houses : Int32) (i_hookLeast : Int32) (a_house : Nat → Int32) (a_hook : Nat → Int32) (a_hookBest : Nat → Int32) (e_i_houses : I 1161 o = i_houses) (e_i_hookLeast : I 1162 o = i_hookLeast) (e_a_house : A (o + 28) = a_house) (e_a_hook : A (o + 29) = a_hook) (e_a_hookBest : A (o + 30) = a_hookBest) (out : Int32 × (Nat → Int32) × (Nat → Int32)) (hf : fb14_tryHooks q_X14_tryHooks p1 p2 p3 i_houses i_hookLeast a_house a_hook a_hookBest = some out), GMet l yX14_tryHooks cX14_tryHooks 9 none ((d + 1) + 0) ((d + 1) * 28 + 0) G [.ref o, .int p1, .int p2, .int p3] K I J X A B Q none K (ov I [(1162, o, out.1)]) J X (ova A [((o + 28), a_house), ((o + 29), out.2.1), ((o + 30), out.2.2)]) B Q 0 0 := by
  intro G K I J X A B Q o shM p1 p2 p3 i_houses i_hookLeast a_house a_hook a_hookBest e_i_houses e_i_hookLeast e_a_house e_a_hook e_a_hookBest out hf
  refine GMet.of (y := yX14_tryHooks) rfl (Nat.le_of_ble_eq_true rfl) rfl ?_
  intro p e s m below meth c ls hx hb hr hml hlocks hts hown hname hG hR hl
  have hown : s.vm.findClass RX14 = some m.cls := hown
  have k_a_house : K (o + 28) = some (.inr (0, 12)) := (shM.2 27 _ rfl).1
  have k_a_hook : K (o + 29) = some (.inr (0, 6)) := (shM.2 28 _ rfl).1
  have k_a_hookBest : K (o + 30) = some (.inr (0, 6)) := (shM.2 29 _ rfl).1
  have hN_A : nda [(o + 28), (o + 29), (o + 30)] := nd_off o [28, 29, 30] rfl
  have hR : RS G K (ov I [(1162, o, i_hookLeast)]) J X (ova A [((o + 28), a_house), ((o + 29), a_hook), ((o + 30), a_hookBest)]) B Q s.heap := hR.to (Eq.symm (ov_sc e_i_hookLeast rfl)) rfl rfl (Eq.symm (ova_sc e_a_house (ova_sc e_a_hook (ova_sc e_a_hookBest rfl)))) rfl rfl
  have hS : va_S (gA G) s.heap s.heap [] := va_S.rf
  have hend : ∀ (pc : Nat) (H : Heap) (locs : List Loc) (ls : Array Slot), decode cX14_tryHooks pc = .ok (.return_, 1) → RS G K (ov I [(1162, o, out.1)]) J X (ova A [((o + 28), a_house), ((o + 29), out.2.1), ((o + 30), out.2.2)]) B Q H → va_S (gA G) s.heap H locs → W p l e ({ frames := (d + 1) + 0, cells := 0, slots := 0, locals := (d + 1) * 28 + 0 } : Room) s m ([.ref o, .int p1, .int p2, .int p3] : List Value).toArray below meth c H locs 0 0 (MQ below (gQ G none K (ov I [(1162, o, out.1)]) J X (ova A [((o + 28), a_house), ((o + 29), out.2.1), ((o + 30), out.2.2)]) B Q) ([.ref o, .int p1, .int p2, .int p3] : List Value).toArray s 0 0 (gA G)) (F0 m pc ls []) := fun pc H locs ls hd hR hS => g_vret hx hb hr hlocks hG hR hS rfl hd
  generalize MQ below (gQ G none K (ov I [(1162, o, out.1)]) J X (ova A [((o + 28), a_house), ((o + 29), out.2.1), ((o + 30), out.2.2)]) B Q) ([.ref o, .int p1, .int p2, .int p3] : List Value).toArray s 0 0 (gA G) = Z at hend ⊢
  generalize ([.ref o, .int p1, .int p2, .int p3] : List Value).toArray = args at hts hend ⊢
  unfold fb14_tryHooks at hf
  refine lv_iload_n hx hb dX14_tryHooks_0 rfl (lv_at hl 1 rfl) ?_
  refine lv_iload_n hx hb dX14_tryHooks_1 rfl (lv_at hl 2 rfl) ?_
  refine lv_icmp_ne (tgt := 149) hx hb dX14_tryHooks_2 (by decide) (fun c1 => ?_) (fun c1 => ?_)
  · have hf := ite_f c1 hf
    refine lv_iload_n hx hb dX14_tryHooks_149 rfl (lv_at hl 3 rfl) ?_
    refine lv_istore (lv' := [(4, .int p3), (0, .ref o), (1, .int p1), (2, .int p2), (3, .int p3)]) hx hb dX14_tryHooks_150 hl (by decide) rfl (fun ls hl => ?_)
    obtain ⟨rl2, hw2, hfo2⟩ := bind_s hf
    have hx2_0 : ∀ (x2_0 : Int32 × (Nat → Int32) × (Nat → Int32)), f14_tryHooks_e2_0 x2_0 = some out → ∀ (pc : Nat) (H : Heap) (locs : List Loc) (ls : Array Slot), decode cX14_tryHooks pc = .ok (.return_, 1) → RS G K (ov I [(1162, o, x2_0.1)]) J X (ova A [((o + 28), a_house), ((o + 29), x2_0.2.1), ((o + 30), x2_0.2.2)]) B Q H → va_S (gA G) s.heap H locs → W p l e ({ frames := (d + 1) + 0, cells := 0, slots := 0, locals := (d + 1) * 28 + 0 } : Room) s m args below meth c H locs 0 0 Z (F0 m pc ls []) := by
      intro x2_0 hf pc H locs ls hd hR hS
      unfold f14_tryHooks_e2_0 at hf
      obtain rfl := some_i hf
      exact hend _ _ _ _ hd hR hS
    refine whl_walk (P := fun (s2 : Int32 × Int32 × (Nat → Int32) × (Nat → Int32)) => ∀ (H : Heap) (locs : List Loc) (ls : Array Slot), RS G K (ov I [(1162, o, s2.2.1)]) J X (ova A [((o + 28), a_house), ((o + 29), s2.2.2.1), ((o + 30), s2.2.2.2)]) B Q H → va_S (gA G) s.heap H locs → lv_has ls 9 [(0, .ref o), (1, .int p1), (2, .int p2), (4, .int s2.1)] → W p l e ({ frames := (d + 1) + 0, cells := 0, slots := 0, locals := (d + 1) * 28 + 0 } : Room) s m args below meth c H locs 0 0 Z (F0 m 152 ls [])) (r := rl2) ?_ FU _ hw2 _ _ _ hR hS (lv_sub hl [1, 2, 3, 0] rfl)
    clear hR hS hl hf
    intro s2 o2 hf hk2 H locs ls hR hS hl
    obtain ⟨w2_4, w2_i_hookLeast, w2_a_hook, w2_a_hookBest⟩ := s2
    have hf : f14_tryHooks_s2 q_X14_tryHooks p1 p2 i_houses a_house w2_4 w2_i_hookLeast w2_a_hook w2_a_hookBest = some o2 := hf
    have hR : RS G K (ov I [(1162, o, w2_i_hookLeast)]) J X (ova A [((o + 28), a_house), ((o + 29), w2_a_hook), ((o + 30), w2_a_hookBest)]) B Q H := hR
    have hl : lv_has ls 9 [(0, .ref o), (1, .int p1), (2, .int p2), (4, .int w2_4)] := hl
    unfold f14_tryHooks_s2 at hf
    refine lv_iload hx hb dX14_tryHooks_152 (lv_at hl 3 rfl) ?_
    refine lv_aload_n hx hb dX14_tryHooks_154 rfl (lv_at hl 0 rfl) ?_
    refine n_geti (v := i_houses) hx hb hts hown hG hR gFi_X14_411_11 shM.1 ((congrFun (ov_no rfl) _).trans e_i_houses) dX14_tryHooks_155 ?_
    refine lv_icmp_ge (tgt := 192) hx hb dX14_tryHooks_158 (by decide) (fun c3 => ?_) (fun c3 => ?_)
    · have hf := ite_t c3 hf
      obtain rfl := some_i hf
      replace hk2 : _ = rl2 := hk2
      subst hk2
      exact hx2_0 (w2_i_hookLeast, w2_a_hook, w2_a_hookBest) hfo2 _ _ _ _ dX14_tryHooks_192 hR hS
    · have hf := ite_f c3 hf
      refine lv_aload_n hx hb dX14_tryHooks_161 rfl (lv_at hl 0 rfl) ?_
      refine g_getr (b := (o + 29)) hx hb hts hown hG hR gFx_X14_96_11 shM.1 ((shM.2 28 _ rfl).2) dX14_tryHooks_162 ?_
      refine lv_iload_n hx hb dX14_tryHooks_165 rfl (lv_at hl 1 rfl) ?_
      refine lv_aload_n hx hb dX14_tryHooks_166 rfl (lv_at hl 0 rfl) ?_
      refine g_getr (b := (o + 28)) hx hb hts hown hG hR gFx_X14_93_11 shM.1 ((shM.2 27 _ rfl).2) dX14_tryHooks_167 ?_
      refine lv_iload hx hb dX14_tryHooks_170 (lv_at hl 3 rfl) ?_
      obtain ⟨c4, hf⟩ := gd_some hf
      obtain ⟨v5, ev5, hf⟩ := lt_some hf
      refine n_iald (x := a_house) hx hb hG hR k_a_house c4 (ova_get 0 hN_A rfl) ev5 dX14_tryHooks_172 ?_
      obtain ⟨c6, hf⟩ := gd_some hf
      obtain ⟨u7, eu7, hf⟩ := lt_some hf
      refine n_iast (la' := [((o + 28), a_house), ((o + 29), u7), ((o + 30), w2_a_hookBest)]) hx hb hG hR hS k_a_hook c6 hN_A 1 rfl eu7 rfl dX14_tryHooks_173 (fun H locs hR hS => ?_)
      refine lv_aload_n hx hb dX14_tryHooks_174 rfl (lv_at hl 0 rfl) ?_
      refine lv_iload_n hx hb dX14_tryHooks_175 rfl (lv_at hl 1 rfl) ?_
      refine lv_iconst (v := 1) hx hb dX14_tryHooks_176 li_1 ?_
      obtain ⟨v8, ev8, hf⟩ := lt_some hf
      refine n_iadd hx hb ev8 dX14_tryHooks_177 ?_
      refine lv_iload_n hx hb dX14_tryHooks_178 rfl (lv_at hl 2 rfl) ?_
      refine lv_iload hx hb dX14_tryHooks_179 (lv_at hl 3 rfl) ?_
      refine lv_iconst (v := 1) hx hb dX14_tryHooks_181 li_1 ?_
      obtain ⟨v9, ev9, hf⟩ := lt_some hf
      refine n_iadd hx hb ev9 dX14_tryHooks_182 ?_
      obtain ⟨rr10, hrr10, hf⟩ := bind_s hf
      refine g0_cVv (rm := (d + 0, d * 28 + 0)) (As := [.int v8, .int p2, .int v9]) (rest := []) ⟨hx, hb, hml, hown, hts⟩ hG hR hS (ih_X14_tryHooks G K (ov I [(1162, o, w2_i_hookLeast)]) J X (ova A [((o + 28), a_house), ((o + 29), u7), ((o + 30), w2_a_hookBest)]) B Q o shM v8 p2 v9 i_houses w2_i_hookLeast a_house u7 w2_a_hookBest ((congrFun (ov_no rfl) _).trans e_i_houses) (ov_get 0 rfl rfl) (ova_get 0 hN_A rfl) (ova_get 1 hN_A rfl) (ova_get 2 hN_A rfl) rr10 hrr10) (cwV 3 hts gi_X14_417 rfl rfl rfl hd_X14_tryHooks ⟨by dsimp only; omega, by dsimp only; omega⟩) shM.1 rfl rfl hl.1 (Nat.le_of_ble_eq_true rfl) dX14_tryHooks_183 ⟨Nat.le_refl _, Nat.le_refl _⟩ rfl (fun H locs hR hS => ?_)
      have hR : RS G K (ov I [(1162, o, rr10.1)]) J X (ova A [((o + 28), a_house), ((o + 29), rr10.2.1), ((o + 30), rr10.2.2)]) B Q H := hR.to (ov_merge (l := [(1162, o, w2_i_hookLeast)]) rfl [0] [(1162, o, rr10.1)] rfl rfl) rfl rfl (ova_merge (l := [((o + 28), a_house), ((o + 29), u7), ((o + 30), w2_a_hookBest)]) hN_A [0, 1, 2] [((o + 28), a_house), ((o + 29), rr10.2.1), ((o + 30), rr10.2.2)] rfl rfl) rfl rfl
      obtain ⟨v11, ev11, hf⟩ := lt_some hf
      refine lv_iinc (k := 3) (v := v11) (lv' := [(4, .int v11), (0, .ref o), (1, .int p1), (2, .int p2)]) hx hb dX14_tryHooks_186 hl rfl (by rw [ev11]; rfl) (by decide) rfl (fun ls hl => ?_)
      refine lv_goto (tgt := 152) hx hb dX14_tryHooks_189 (by decide) ?_
      obtain rfl := some_i hf
      exact hk2 _ _ _ hR hS (lv_sub hl [1, 2, 3, 0] rfl)
  · have hf := ite_t c1 hf
    refine lv_iconst (v := 0) hx hb dX14_tryHooks_5 li_0 ?_
    refine lv_istore (lv' := [(4, .int (0 : Int32)), (0, .ref o), (1, .int p1), (2, .int p2), (3, .int p3)]) hx hb dX14_tryHooks_6 hl (by decide) rfl (fun ls hl => ?_)
    refine lv_iconst (v := 0) hx hb dX14_tryHooks_8 li_0 ?_
    refine lv_istore (lv' := [(5, .int (0 : Int32)), (4, .int (0 : Int32)), (0, .ref o), (1, .int p1), (2, .int p2), (3, .int p3)]) hx hb dX14_tryHooks_9 hl (by decide) rfl (fun ls hl => ?_)
    obtain ⟨rl12, hw12, hfo12⟩ := bind_s hf
    have hx12_0 : ∀ (x12_0 : Int32), f14_tryHooks_e12_0 p2 i_hookLeast a_hook a_hookBest x12_0 = some out → ∀ (H : Heap) (locs : List Loc) (ls : Array Slot), RS G K (ov I [(1162, o, i_hookLeast)]) J X (ova A [((o + 28), a_house), ((o + 29), a_hook), ((o + 30), a_hookBest)]) B Q H → va_S (gA G) s.heap H locs → lv_has ls 9 [(0, .ref o), (2, .int p2), (4, .int x12_0)] → W p l e ({ frames := (d + 1) + 0, cells := 0, slots := 0, locals := (d + 1) * 28 + 0 } : Room) s m args below meth c H locs 0 0 Z (F0 m 95 ls []) := by
      intro x12_0 hf H locs ls hR hS hl
      unfold f14_tryHooks_e12_0 at hf
      refine lv_aload_n hx hb dX14_tryHooks_95 rfl (lv_at hl 0 rfl) ?_
      refine n_geti (v := i_hookLeast) hx hb hts hown hG hR gFi_X14_414_11 shM.1 (ov_get 0 rfl rfl) dX14_tryHooks_96 ?_
      refine lv_iconst (v := -1) hx hb dX14_tryHooks_99 li_m1 ?_
      have hj113 : ∀ (_ : Unit), f14_tryHooks_j113 p2 a_hook a_hookBest x12_0 = some out → ∀ (H : Heap) (locs : List Loc) (ls : Array Slot), RS G K (ov I [(1162, o, i_hookLeast)]) J X (ova A [((o + 28), a_house), ((o + 29), a_hook), ((o + 30), a_hookBest)]) B Q H → va_S (gA G) s.heap H locs → lv_has ls 9 [(0, .ref o), (2, .int p2), (4, .int x12_0)] → W p l e ({ frames := (d + 1) + 0, cells := 0, slots := 0, locals := (d + 1) * 28 + 0 } : Room) s m args below meth c H locs 0 0 Z (F0 m 113 ls []) := by
        intro _ hf H locs ls hR hS hl
        unfold f14_tryHooks_j113 at hf
        refine lv_aload_n hx hb dX14_tryHooks_113 rfl (lv_at hl 0 rfl) ?_
        refine lv_iload hx hb dX14_tryHooks_114 (lv_at hl 2 rfl) ?_
        refine n_puti (li' := [(1162, o, x12_0)]) hx hb hts hown hG hR hS gPi_X14_414_11 shM.1 0 rfl rfl rfl dX14_tryHooks_116 (fun H locs hR hS => ?_)
        refine lv_iconst (v := 0) hx hb dX14_tryHooks_119 li_0 ?_
        refine lv_istore (lv' := [(5, .int (0 : Int32)), (0, .ref o), (2, .int p2), (4, .int x12_0)]) hx hb dX14_tryHooks_120 hl (by decide) rfl (fun ls hl => ?_)
        obtain ⟨rl13, hw13, hfo13⟩ := bind_s hf
        have hx13_0 : ∀ (x13_0 : Int32 × (Nat → Int32) × (Nat → Int32)), f14_tryHooks_e13_0 x13_0 = some out → ∀ (pc : Nat) (H : Heap) (locs : List Loc) (ls : Array Slot), decode cX14_tryHooks pc = .ok (.return_, 1) → RS G K (ov I [(1162, o, x13_0.1)]) J X (ova A [((o + 28), a_house), ((o + 29), x13_0.2.1), ((o + 30), x13_0.2.2)]) B Q H → va_S (gA G) s.heap H locs → W p l e ({ frames := (d + 1) + 0, cells := 0, slots := 0, locals := (d + 1) * 28 + 0 } : Room) s m args below meth c H locs 0 0 Z (F0 m pc ls []) := by
          intro x13_0 hf pc H locs ls hd hR hS
          unfold f14_tryHooks_e13_0 at hf
          obtain rfl := some_i hf
          exact hend _ _ _ _ hd hR hS
        refine whl_walk (P := fun (s13 : Int32 × (Nat → Int32)) => ∀ (H : Heap) (locs : List Loc) (ls : Array Slot), RS G K (ov I [(1162, o, x12_0)]) J X (ova A [((o + 28), a_house), ((o + 29), a_hook), ((o + 30), s13.2)]) B Q H → va_S (gA G) s.heap H locs → lv_has ls 9 [(0, .ref o), (2, .int p2), (5, .int s13.1)] → W p l e ({ frames := (d + 1) + 0, cells := 0, slots := 0, locals := (d + 1) * 28 + 0 } : Room) s m args below meth c H locs 0 0 Z (F0 m 122 ls [])) (r := rl13) ?_ FU _ hw13 _ _ _ hR hS (lv_sub hl [1, 2, 0] rfl)
        clear hR hS hl hf
        intro s13 o13 hf hk13 H locs ls hR hS hl
        obtain ⟨w13_5, w13_a_hookBest⟩ := s13
        have hf : f14_tryHooks_s13 p2 a_hook x12_0 w13_5 w13_a_hookBest = some o13 := hf
        have hR : RS G K (ov I [(1162, o, x12_0)]) J X (ova A [((o + 28), a_house), ((o + 29), a_hook), ((o + 30), w13_a_hookBest)]) B Q H := hR
        have hl : lv_has ls 9 [(0, .ref o), (2, .int p2), (5, .int w13_5)] := hl
        unfold f14_tryHooks_s13 at hf
        refine lv_iload hx hb dX14_tryHooks_122 (lv_at hl 2 rfl) ?_
        refine lv_iload_n hx hb dX14_tryHooks_124 rfl (lv_at hl 1 rfl) ?_
        refine lv_icmp_ge (tgt := 148) hx hb dX14_tryHooks_125 (by decide) (fun c14 => ?_) (fun c14 => ?_)
        · have hf := ite_t c14 hf
          obtain rfl := some_i hf
          replace hk13 : _ = rl13 := hk13
          subst hk13
          exact hx13_0 (x12_0, a_hook, w13_a_hookBest) hfo13 _ _ _ _ dX14_tryHooks_148 hR hS
        · have hf := ite_f c14 hf
          refine lv_aload_n hx hb dX14_tryHooks_128 rfl (lv_at hl 0 rfl) ?_
          refine g_getr (b := (o + 30)) hx hb hts hown hG hR gFx_X14_99_11 shM.1 ((shM.2 29 _ rfl).2) dX14_tryHooks_129 ?_
          refine lv_iload hx hb dX14_tryHooks_132 (lv_at hl 2 rfl) ?_
          refine lv_aload_n hx hb dX14_tryHooks_134 rfl (lv_at hl 0 rfl) ?_
          refine g_getr (b := (o + 29)) hx hb hts hown hG hR gFx_X14_96_11 shM.1 ((shM.2 28 _ rfl).2) dX14_tryHooks_135 ?_
          refine lv_iload hx hb dX14_tryHooks_138 (lv_at hl 2 rfl) ?_
          obtain ⟨c15, hf⟩ := gd_some hf
          obtain ⟨v16, ev16, hf⟩ := lt_some hf
          refine n_iald (x := a_hook) hx hb hG hR k_a_hook c15 (ova_get 1 hN_A rfl) ev16 dX14_tryHooks_140 ?_
          obtain ⟨c17, hf⟩ := gd_some hf
          obtain ⟨u18, eu18, hf⟩ := lt_some hf
          refine n_iast (la' := [((o + 28), a_house), ((o + 29), a_hook), ((o + 30), u18)]) hx hb hG hR hS k_a_hookBest c17 hN_A 2 rfl eu18 rfl dX14_tryHooks_141 (fun H locs hR hS => ?_)
          obtain ⟨v19, ev19, hf⟩ := lt_some hf
          refine lv_iinc (k := 2) (v := v19) (lv' := [(5, .int v19), (0, .ref o), (2, .int p2)]) hx hb dX14_tryHooks_142 hl rfl (by rw [ev19]; rfl) (by decide) rfl (fun ls hl => ?_)
          refine lv_goto (tgt := 122) hx hb dX14_tryHooks_145 (by decide) ?_
          obtain rfl := some_i hf
          exact hk13 _ _ _ hR hS (lv_sub hl [1, 2, 0] rfl)
      refine lv_icmp_eq (tgt := 113) hx hb dX14_tryHooks_100 (by decide) (fun c20 => ?_) (fun c20 => ?_)
      · have hf := ite_t c20 hf
        exact hj113 () hf _ _ _ hR hS (lv_sub hl [0, 1, 2] rfl)
      · have hf := ite_f c20 hf
        refine lv_iload hx hb dX14_tryHooks_103 (lv_at hl 2 rfl) ?_
        refine lv_aload_n hx hb dX14_tryHooks_105 rfl (lv_at hl 0 rfl) ?_
        refine n_geti (v := i_hookLeast) hx hb hts hown hG hR gFi_X14_414_11 shM.1 (ov_get 0 rfl rfl) dX14_tryHooks_106 ?_
        refine lv_icmp_lt (tgt := 113) hx hb dX14_tryHooks_109 (by decide) (fun c21 => ?_) (fun c21 => ?_)
        · have hf := ite_t c21 hf
          exact hj113 () hf _ _ _ hR hS (lv_sub hl [0, 1, 2] rfl)
        · have hf := ite_f c21 hf
          obtain rfl := some_i hf
          exact hend _ _ _ _ dX14_tryHooks_112 hR hS
    refine whl_walk (P := fun (s12 : Int32 × Int32) => ∀ (H : Heap) (locs : List Loc) (ls : Array Slot), RS G K (ov I [(1162, o, i_hookLeast)]) J X (ova A [((o + 28), a_house), ((o + 29), a_hook), ((o + 30), a_hookBest)]) B Q H → va_S (gA G) s.heap H locs → lv_has ls 9 [(0, .ref o), (2, .int p2), (4, .int s12.1), (5, .int s12.2)] → W p l e ({ frames := (d + 1) + 0, cells := 0, slots := 0, locals := (d + 1) * 28 + 0 } : Room) s m args below meth c H locs 0 0 Z (F0 m 11 ls [])) (r := rl12) ?_ FU _ hw12 _ _ _ hR hS (lv_sub hl [2, 4, 1, 0] rfl)
    clear hR hS hl hf
    intro s12 o12 hf hk12 H locs ls hR hS hl
    obtain ⟨w12_4, w12_5⟩ := s12
    have hf : f14_tryHooks_s12 p2 i_houses a_house a_hook w12_4 w12_5 = some o12 := hf
    have hR : RS G K (ov I [(1162, o, i_hookLeast)]) J X (ova A [((o + 28), a_house), ((o + 29), a_hook), ((o + 30), a_hookBest)]) B Q H := hR
    have hl : lv_has ls 9 [(0, .ref o), (2, .int p2), (4, .int w12_4), (5, .int w12_5)] := hl
    unfold f14_tryHooks_s12 at hf
    refine lv_iload hx hb dX14_tryHooks_11 (lv_at hl 3 rfl) ?_
    refine lv_aload_n hx hb dX14_tryHooks_13 rfl (lv_at hl 0 rfl) ?_
    refine n_geti (v := i_houses) hx hb hts hown hG hR gFi_X14_411_11 shM.1 ((congrFun (ov_no rfl) _).trans e_i_houses) dX14_tryHooks_14 ?_
    refine lv_icmp_ge (tgt := 95) hx hb dX14_tryHooks_17 (by decide) (fun c22 => ?_) (fun c22 => ?_)
    · have hf := ite_t c22 hf
      obtain rfl := some_i hf
      replace hk12 : _ = rl12 := hk12
      subst hk12
      exact hx12_0 w12_4 hfo12 _ _ _ hR hS (lv_sub hl [0, 1, 2] rfl)
    · have hf := ite_f c22 hf
      refine lv_sipush (v := 1000) hx hb dX14_tryHooks_20 ls_1000 ?_
      refine lv_istore (lv' := [(6, .int (1000 : Int32)), (0, .ref o), (2, .int p2), (4, .int w12_4), (5, .int w12_5)]) hx hb dX14_tryHooks_23 hl (by decide) rfl (fun ls hl => ?_)
      refine lv_iconst (v := 0) hx hb dX14_tryHooks_25 li_0 ?_
      refine lv_istore (lv' := [(7, .int (0 : Int32)), (6, .int (1000 : Int32)), (0, .ref o), (2, .int p2), (4, .int w12_4), (5, .int w12_5)]) hx hb dX14_tryHooks_26 hl (by decide) rfl (fun ls hl => ?_)
      obtain ⟨rl23, hw23, hfo23⟩ := bind_s hf
      have hx23_0 : ∀ (x23_0 : Int32), f14_tryHooks_e23_0 w12_4 w12_5 x23_0 = some o12 → ∀ (H : Heap) (locs : List Loc) (ls : Array Slot), RS G K (ov I [(1162, o, i_hookLeast)]) J X (ova A [((o + 28), a_house), ((o + 29), a_hook), ((o + 30), a_hookBest)]) B Q H → va_S (gA G) s.heap H locs → lv_has ls 9 [(0, .ref o), (2, .int p2), (4, .int w12_4), (5, .int w12_5), (6, .int x23_0)] → W p l e ({ frames := (d + 1) + 0, cells := 0, slots := 0, locals := (d + 1) * 28 + 0 } : Room) s m args below meth c H locs 0 0 Z (F0 m 78 ls []) := by
        intro x23_0 hf H locs ls hR hS hl
        unfold f14_tryHooks_e23_0 at hf
        refine lv_iload hx hb dX14_tryHooks_78 (lv_at hl 4 rfl) ?_
        refine lv_iload hx hb dX14_tryHooks_80 (lv_at hl 2 rfl) ?_
        have hj89 : ∀ (j89_4 : Int32), f14_tryHooks_j89 w12_5 j89_4 = some o12 → ∀ (H : Heap) (locs : List Loc) (ls : Array Slot), RS G K (ov I [(1162, o, i_hookLeast)]) J X (ova A [((o + 28), a_house), ((o + 29), a_hook), ((o + 30), a_hookBest)]) B Q H → va_S (gA G) s.heap H locs → lv_has ls 9 [(0, .ref o), (2, .int p2), (4, .int j89_4), (5, .int w12_5)] → W p l e ({ frames := (d + 1) + 0, cells := 0, slots := 0, locals := (d + 1) * 28 + 0 } : Room) s m args below meth c H locs 0 0 Z (F0 m 89 ls []) := by
          intro j89_4 hf H locs ls hR hS hl
          unfold f14_tryHooks_j89 at hf
          obtain ⟨v24, ev24, hf⟩ := lt_some hf
          refine lv_iinc (k := 3) (v := v24) (lv' := [(5, .int v24), (0, .ref o), (2, .int p2), (4, .int j89_4)]) hx hb dX14_tryHooks_89 hl rfl (by rw [ev24]; rfl) (by decide) rfl (fun ls hl => ?_)
          refine lv_goto (tgt := 11) hx hb dX14_tryHooks_92 (by decide) ?_
          obtain rfl := some_i hf
          exact hk12 _ _ _ hR hS (lv_sub hl [1, 2, 3, 0] rfl)
        refine lv_icmp_le (tgt := 89) hx hb dX14_tryHooks_82 (by decide) (fun c25 => ?_) (fun c25 => ?_)
        · have hf := ite_t c25 hf
          exact hj89 w12_4 hf _ _ _ hR hS (lv_sub hl [0, 1, 2, 3] rfl)
        · have hf := ite_f c25 hf
          refine lv_iload hx hb dX14_tryHooks_85 (lv_at hl 4 rfl) ?_
          refine lv_istore (lv' := [(4, .int x23_0), (0, .ref o), (2, .int p2), (5, .int w12_5), (6, .int x23_0)]) hx hb dX14_tryHooks_87 hl (by decide) rfl (fun ls hl => ?_)
          exact hj89 x23_0 hf _ _ _ hR hS (lv_sub hl [1, 2, 0, 3] rfl)
      refine whl_walk (P := fun (s23 : Int32 × Int32) => ∀ (H : Heap) (locs : List Loc) (ls : Array Slot), RS G K (ov I [(1162, o, i_hookLeast)]) J X (ova A [((o + 28), a_house), ((o + 29), a_hook), ((o + 30), a_hookBest)]) B Q H → va_S (gA G) s.heap H locs → lv_has ls 9 [(0, .ref o), (2, .int p2), (4, .int w12_4), (5, .int w12_5), (6, .int s23.1), (7, .int s23.2)] → W p l e ({ frames := (d + 1) + 0, cells := 0, slots := 0, locals := (d + 1) * 28 + 0 } : Room) s m args below meth c H locs 0 0 Z (F0 m 28 ls [])) (r := rl23) ?_ FU _ hw23 _ _ _ hR hS (lv_sub hl [2, 3, 4, 5, 1, 0] rfl)
      clear hR hS hl hf
      intro s23 o23 hf hk23 H locs ls hR hS hl
      obtain ⟨w23_6, w23_7⟩ := s23
      have hf : f14_tryHooks_s23 p2 a_house a_hook w12_5 w23_6 w23_7 = some o23 := hf
      have hR : RS G K (ov I [(1162, o, i_hookLeast)]) J X (ova A [((o + 28), a_house), ((o + 29), a_hook), ((o + 30), a_hookBest)]) B Q H := hR
      have hl : lv_has ls 9 [(0, .ref o), (2, .int p2), (4, .int w12_4), (5, .int w12_5), (6, .int w23_6), (7, .int w23_7)] := hl
      unfold f14_tryHooks_s23 at hf
      refine lv_iload hx hb dX14_tryHooks_28 (lv_at hl 5 rfl) ?_
      refine lv_iload_n hx hb dX14_tryHooks_30 rfl (lv_at hl 1 rfl) ?_
      refine lv_icmp_ge (tgt := 78) hx hb dX14_tryHooks_31 (by decide) (fun c26 => ?_) (fun c26 => ?_)
      · have hf := ite_t c26 hf
        obtain rfl := some_i hf
        replace hk23 : _ = rl23 := hk23
        subst hk23
        exact hx23_0 w23_6 hfo23 _ _ _ hR hS (lv_sub hl [0, 1, 2, 3, 4] rfl)
      · have hf := ite_f c26 hf
        refine lv_aload_n hx hb dX14_tryHooks_34 rfl (lv_at hl 0 rfl) ?_
        refine g_getr (b := (o + 28)) hx hb hts hown hG hR gFx_X14_93_11 shM.1 ((shM.2 27 _ rfl).2) dX14_tryHooks_35 ?_
        refine lv_iload hx hb dX14_tryHooks_38 (lv_at hl 3 rfl) ?_
        obtain ⟨c27, hf⟩ := gd_some hf
        obtain ⟨v28, ev28, hf⟩ := lt_some hf
        refine n_iald (x := a_house) hx hb hG hR k_a_house c27 (ova_get 0 hN_A rfl) ev28 dX14_tryHooks_40 ?_
        refine lv_aload_n hx hb dX14_tryHooks_41 rfl (lv_at hl 0 rfl) ?_
        refine g_getr (b := (o + 29)) hx hb hts hown hG hR gFx_X14_96_11 shM.1 ((shM.2 28 _ rfl).2) dX14_tryHooks_42 ?_
        refine lv_iload hx hb dX14_tryHooks_45 (lv_at hl 5 rfl) ?_
        obtain ⟨c29, hf⟩ := gd_some hf
        obtain ⟨v30, ev30, hf⟩ := lt_some hf
        refine n_iald (x := a_hook) hx hb hG hR k_a_hook c29 (ova_get 1 hN_A rfl) ev30 dX14_tryHooks_47 ?_
        obtain ⟨v31, ev31, hf⟩ := lt_some hf
        refine n_isub hx hb ev31 dX14_tryHooks_48 ?_
        refine lv_istore (lv' := [(8, .int v31), (0, .ref o), (2, .int p2), (4, .int w12_4), (5, .int w12_5), (6, .int w23_6), (7, .int w23_7)]) hx hb dX14_tryHooks_49 hl (by decide) rfl (fun ls hl => ?_)
        refine lv_iload hx hb dX14_tryHooks_51 (lv_at hl 0 rfl) ?_
        have hj61 : ∀ (j61_8 : Int32), f14_tryHooks_j61 w23_6 w23_7 j61_8 = some o23 → ∀ (H : Heap) (locs : List Loc) (ls : Array Slot), RS G K (ov I [(1162, o, i_hookLeast)]) J X (ova A [((o + 28), a_house), ((o + 29), a_hook), ((o + 30), a_hookBest)]) B Q H → va_S (gA G) s.heap H locs → lv_has ls 9 [(0, .ref o), (2, .int p2), (4, .int w12_4), (5, .int w12_5), (6, .int w23_6), (7, .int w23_7), (8, .int j61_8)] → W p l e ({ frames := (d + 1) + 0, cells := 0, slots := 0, locals := (d + 1) * 28 + 0 } : Room) s m args below meth c H locs 0 0 Z (F0 m 61 ls []) := by
          intro j61_8 hf H locs ls hR hS hl
          unfold f14_tryHooks_j61 at hf
          refine lv_iload hx hb dX14_tryHooks_61 (lv_at hl 6 rfl) ?_
          refine lv_iload hx hb dX14_tryHooks_63 (lv_at hl 4 rfl) ?_
          have hj72 : ∀ (j72_6 : Int32), f14_tryHooks_j72 w23_7 j72_6 = some o23 → ∀ (H : Heap) (locs : List Loc) (ls : Array Slot), RS G K (ov I [(1162, o, i_hookLeast)]) J X (ova A [((o + 28), a_house), ((o + 29), a_hook), ((o + 30), a_hookBest)]) B Q H → va_S (gA G) s.heap H locs → lv_has ls 9 [(0, .ref o), (2, .int p2), (4, .int w12_4), (5, .int w12_5), (6, .int j72_6), (7, .int w23_7)] → W p l e ({ frames := (d + 1) + 0, cells := 0, slots := 0, locals := (d + 1) * 28 + 0 } : Room) s m args below meth c H locs 0 0 Z (F0 m 72 ls []) := by
            intro j72_6 hf H locs ls hR hS hl
            unfold f14_tryHooks_j72 at hf
            obtain ⟨v32, ev32, hf⟩ := lt_some hf
            refine lv_iinc (k := 5) (v := v32) (lv' := [(7, .int v32), (0, .ref o), (2, .int p2), (4, .int w12_4), (5, .int w12_5), (6, .int j72_6)]) hx hb dX14_tryHooks_72 hl rfl (by rw [ev32]; rfl) (by decide) rfl (fun ls hl => ?_)
            refine lv_goto (tgt := 28) hx hb dX14_tryHooks_75 (by decide) ?_
            obtain rfl := some_i hf
            exact hk23 _ _ _ hR hS (lv_sub hl [1, 2, 3, 4, 5, 0] rfl)
          refine lv_icmp_ge (tgt := 72) hx hb dX14_tryHooks_65 (by decide) (fun c33 => ?_) (fun c33 => ?_)
          · have hf := ite_t c33 hf
            exact hj72 w23_6 hf _ _ _ hR hS (lv_sub hl [0, 1, 2, 3, 4, 5] rfl)
          · have hf := ite_f c33 hf
            refine lv_iload hx hb dX14_tryHooks_68 (lv_at hl 6 rfl) ?_
            refine lv_istore (lv' := [(6, .int j61_8), (0, .ref o), (2, .int p2), (4, .int w12_4), (5, .int w12_5), (7, .int w23_7), (8, .int j61_8)]) hx hb dX14_tryHooks_70 hl (by decide) rfl (fun ls hl => ?_)
            exact hj72 j61_8 hf _ _ _ hR hS (lv_sub hl [1, 2, 3, 4, 0, 5] rfl)
        refine lv_if_ge (tgt := 61) hx hb dX14_tryHooks_53 (by decide) (fun c34 => ?_) (fun c34 => ?_)
        · have hf := ite_t c34 hf
          exact hj61 v31 hf _ _ _ hR hS (lv_sub hl [1, 2, 3, 4, 5, 6, 0] rfl)
        · have hf := ite_f c34 hf
          refine lv_iload hx hb dX14_tryHooks_56 (lv_at hl 0 rfl) ?_
          obtain ⟨v35, ev35, hf⟩ := lt_some hf
          refine n_ineg hx hb ev35 dX14_tryHooks_58 ?_
          refine lv_istore (lv' := [(8, .int v35), (0, .ref o), (2, .int p2), (4, .int w12_4), (5, .int w12_5), (6, .int w23_6), (7, .int w23_7)]) hx hb dX14_tryHooks_59 hl (by decide) rfl (fun ls hl => ?_)
          exact hj61 v35 hf _ _ _ hR hS (lv_sub hl [1, 2, 3, 4, 5, 6, 0] rfl)
theorem f14_tryHooks_z : f14_tryHooks 0 = fun _ _ _ _ _ _ _ _ => none := rfl
theorem f14_tryHooks_s (d : Nat) : f14_tryHooks (d + 1) = fb14_tryHooks (f14_tryHooks d) := rfl
theorem mG_X14_tryHooks (l : Launch) : ∀ d : Nat, (∀ (G : gG) (K : gK) (I : gI) (J : gJ) (X : gX) (A : gI) (B : gJ) (Q : gX) (o : Nat) (shM : Sh K X o 11 rows11) (p1 : Int32) (p2 : Int32) (p3 : Int32) (i_houses : Int32) (i_hookLeast : Int32) (a_house : Nat → Int32) (a_hook : Nat → Int32) (a_hookBest : Nat → Int32) (e_i_houses : I 1161 o = i_houses) (e_i_hookLeast : I 1162 o = i_hookLeast) (e_a_house : A (o + 28) = a_house) (e_a_hook : A (o + 29) = a_hook) (e_a_hookBest : A (o + 30) = a_hookBest) (out : Int32 × (Nat → Int32) × (Nat → Int32)) (hf : f14_tryHooks d p1 p2 p3 i_houses i_hookLeast a_house a_hook a_hookBest = some out), GMet l yX14_tryHooks cX14_tryHooks 9 none (d + 0) (d * 28 + 0) G [.ref o, .int p1, .int p2, .int p3] K I J X A B Q none K (ov I [(1162, o, out.1)]) J X (ova A [((o + 28), a_house), ((o + 29), out.2.1), ((o + 30), out.2.2)]) B Q 0 0) := by
  intro d
  induction d with
  | zero =>
    exact (by intro G K I J X A B Q o shM p1 p2 p3 i_houses i_hookLeast a_house a_hook a_hookBest e_i_houses e_i_hookLeast e_a_house e_a_hook e_a_hookBest out hf; rw [f14_tryHooks_z] at hf; cases hf)
  | succ d ih =>
    exact (by intro G K I J X A B Q o shM p1 p2 p3 i_houses i_hookLeast a_house a_hook a_hookBest e_i_houses e_i_hookLeast e_a_house e_a_hook e_a_hookBest out hf; rw [f14_tryHooks_s] at hf; exact w14_tryHooks l d (f14_tryHooks d) ih G K I J X A B Q o shM p1 p2 p3 i_houses i_hookLeast a_house a_hook a_hookBest e_i_houses e_i_hookLeast e_a_house e_a_hook e_a_hookBest out hf)
theorem m14_tryHooks (l : Launch) (d : Nat) : ∀ (G : gG) (K : gK) (I : gI) (J : gJ) (X : gX) (A : gI) (B : gJ) (Q : gX) (o : Nat) (shM : Sh K X o 11 rows11) (p1 : Int32) (p2 : Int32) (p3 : Int32) (i_houses : Int32) (i_hookLeast : Int32) (a_house : Nat → Int32) (a_hook : Nat → Int32) (a_hookBest : Nat → Int32) (e_i_houses : I 1161 o = i_houses) (e_i_hookLeast : I 1162 o = i_hookLeast) (e_a_house : A (o + 28) = a_house) (e_a_hook : A (o + 29) = a_hook) (e_a_hookBest : A (o + 30) = a_hookBest) (out : Int32 × (Nat → Int32) × (Nat → Int32)) (hf : f14_tryHooks d p1 p2 p3 i_houses i_hookLeast a_house a_hook a_hookBest = some out), GMet l yX14_tryHooks cX14_tryHooks 9 none (d + 0) (d * 28 + 0) G [.ref o, .int p1, .int p2, .int p3] K I J X A B Q none K (ov I [(1162, o, out.1)]) J X (ova A [((o + 28), a_house), ((o + 29), out.2.1), ((o + 30), out.2.2)]) B Q 0 0 := (mG_X14_tryHooks l d)
noncomputable def f14_hooks_e9_0 (p1 : Int32) (rr1 : Int32 × Int32) (x7_0 : (Nat → Int32)) (rr8 : Int32 × (Nat → Int32) × (Nat → Int32)) (x9_0 : (Nat → Int32)) : Option (Int32 × Int32 × Int32 × Int32 × Int32 × Int32 × (Nat → Int32) × (Nat → Int32) × (Nat → Int32) × (Nat → Int32)) :=
  some (rr8.1, (0 : Int32), rr1.2, rr1.1, rr8.1, p1, x7_0, rr8.2.1, rr8.2.2, x9_0)

noncomputable def f14_hooks_s9 (p1 : Int32) (rr8 : Int32 × (Nat → Int32) × (Nat → Int32)) (w9_2 : Int32) (w9_a_hookTold : Nat → Int32) : Option ((Int32 × (Nat → Int32)) ⊕ ((Nat → Int32))) :=
  if p1 ≤ w9_2 then
    some (.inr w9_a_hookTold)
  else
    gd (inb w9_2 6) <|
    lt (rr8.2.2 w9_2.toNatClampNeg) fun v12 =>
    gd (inb w9_2 6) <|
    lt (upd w9_a_hookTold w9_2.toNatClampNeg v12) fun u14 =>
    lt (w9_2 + (1 : Int32)) fun v15 =>
    some (.inl (v15, u14))

noncomputable def f14_hooks_e7_0 (p1 : Int32) (a_hook : Nat → Int32) (a_hookBest : Nat → Int32) (a_hookTold : Nat → Int32) (rr1 : Int32 × Int32) (x7_0 : (Nat → Int32)) : Option (Int32 × Int32 × Int32 × Int32 × Int32 × Int32 × (Nat → Int32) × (Nat → Int32) × (Nat → Int32) × (Nat → Int32)) :=
  (f14_tryHooks 8 (0 : Int32) p1 (0 : Int32) rr1.1 (-1 : Int32) x7_0 a_hook a_hookBest).bind fun rr8 =>
  (whl (fun (s9 : Int32 × (Nat → Int32)) => f14_hooks_s9 p1 rr8 s9.1 s9.2) FU ((0 : Int32), a_hookTold)).bind fun rl9 =>
  f14_hooks_e9_0 p1 rr1 x7_0 rr8 rl9

noncomputable def f14_hooks_e7_1 (x7_1 : Int32 × Int32 × Int32 × Int32 × Int32 × Int32 × (Nat → Int32) × (Nat → Int32) × (Nat → Int32) × (Nat → Int32)) : Option (Int32 × Int32 × Int32 × Int32 × Int32 × Int32 × (Nat → Int32) × (Nat → Int32) × (Nat → Int32) × (Nat → Int32)) :=
  some x7_1

noncomputable def f14_hooks_j90 (a_tape : Nat → Int32) (w7_2 : Int32) (w7_a_house : Nat → Int32) : Option ((Int32 × (Nat → Int32)) ⊕ (((Nat → Int32)) ⊕ (Int32 × Int32 × Int32 × Int32 × Int32 × Int32 × (Nat → Int32) × (Nat → Int32) × (Nat → Int32) × (Nat → Int32)))) :=
  gd (inb w7_2 740) <|
  lt (a_tape w7_2.toNatClampNeg) fun v21 =>
  gd (inb w7_2 12) <|
  lt (upd w7_a_house w7_2.toNatClampNeg v21) fun u23 =>
  lt (w7_2 + (1 : Int32)) fun v24 =>
  some (.inl (v24, u23))

noncomputable def f14_hooks_s7 (i_hookLeast : Int32) (i_hookMany : Int32) (a_tape : Nat → Int32) (a_hook : Nat → Int32) (a_hookBest : Nat → Int32) (a_hookTold : Nat → Int32) (rr1 : Int32 × Int32) (w7_2 : Int32) (w7_a_house : Nat → Int32) : Option ((Int32 × (Nat → Int32)) ⊕ (((Nat → Int32)) ⊕ (Int32 × Int32 × Int32 × Int32 × Int32 × Int32 × (Nat → Int32) × (Nat → Int32) × (Nat → Int32) × (Nat → Int32)))) :=
  if rr1.1 ≤ w7_2 then
    some (.inr (.inl w7_a_house))
  else
    gd (inb w7_2 740) <|
    lt (a_tape w7_2.toNatClampNeg) fun v18 =>
    if (99 : Int32) < v18 then
      some (.inr (.inr ((-1 : Int32), (0 : Int32), rr1.2, rr1.1, i_hookLeast, i_hookMany, w7_a_house, a_hook, a_hookBest, a_hookTold)))
    else
      if w7_2 ≤ 0 then
        f14_hooks_j90 a_tape w7_2 w7_a_house
      else
        gd (inb w7_2 740) <|
        lt (a_tape w7_2.toNatClampNeg) fun v27 =>
        lt (w7_2 - (1 : Int32)) fun v28 =>
        gd (inb v28 740) <|
        lt (a_tape v28.toNatClampNeg) fun v30 =>
        if v30 < v27 then
          f14_hooks_j90 a_tape w7_2 w7_a_house
        else
          some (.inr (.inr ((-1 : Int32), (0 : Int32), rr1.2, rr1.1, i_hookLeast, i_hookMany, w7_a_house, a_hook, a_hookBest, a_hookTold)))

noncomputable def f14_hooks (p1 : Int32) (i_thrown : Int32) (i_taped : Int32) (i_houses : Int32) (i_hookLeast : Int32) (i_hookMany : Int32) (a_tape : Nat → Int32) (a_house : Nat → Int32) (a_hook : Nat → Int32) (a_hookBest : Nat → Int32) (a_hookTold : Nat → Int32) : Option (Int32 × Int32 × Int32 × Int32 × Int32 × Int32 × (Nat → Int32) × (Nat → Int32) × (Nat → Int32) × (Nat → Int32)) :=
  (f14_take i_taped).bind fun rr1 =>
  (f14_isIn rr1.1 (1 : Int32) (12 : Int32)).bind fun rr2 =>
  if rr2 = 0 then
    some ((-1 : Int32), (0 : Int32), rr1.2, rr1.1, i_hookLeast, i_hookMany, a_house, a_hook, a_hookBest, a_hookTold)
  else
    (f14_isIn p1 (1 : Int32) (6 : Int32)).bind fun rr4 =>
    if rr4 = 0 then
      some ((-1 : Int32), (0 : Int32), rr1.2, rr1.1, i_hookLeast, i_hookMany, a_house, a_hook, a_hookBest, a_hookTold)
    else
      if p1 ≤ rr1.1 then
        (whl (fun (s7 : Int32 × (Nat → Int32)) => f14_hooks_s7 i_hookLeast i_hookMany a_tape a_hook a_hookBest a_hookTold rr1 s7.1 s7.2) FU ((0 : Int32), a_house)).bind fun rl7 =>
        Sum.elim (f14_hooks_e7_0 p1 a_hook a_hookBest a_hookTold rr1) (f14_hooks_e7_1) rl7
      else
        some ((-1 : Int32), (0 : Int32), rr1.2, rr1.1, i_hookLeast, i_hookMany, a_house, a_hook, a_hookBest, a_hookTold)
set_option maxHeartbeats 4000000 in
theorem m14_hooks (l : Launch) (G : gG) (K : gK) (I : gI) (J : gJ) (X : gX) (A : gI) (B : gJ) (Q : gX) (o : Nat) (shM : Sh K X o 11 rows11) (p1 : Int32) (i_thrown : Int32) (i_taped : Int32) (i_houses : Int32) (i_hookLeast : Int32) (i_hookMany : Int32) (a_tape : Nat → Int32) (a_house : Nat → Int32) (a_hook : Nat → Int32) (a_hookBest : Nat → Int32) (a_hookTold : Nat → Int32) (e_i_thrown : I 1100 o = i_thrown) (e_i_taped : I 1102 o = i_taped) (e_i_houses : I 1161 o = i_houses) (e_i_hookLeast : I 1162 o = i_hookLeast) (e_i_hookMany : I 1163 o = i_hookMany) (e_a_tape : A (o + 1) = a_tape) (e_a_house : A (o + 28) = a_house) (e_a_hook : A (o + 29) = a_hook) (e_a_hookBest : A (o + 30) = a_hookBest) (e_a_hookTold : A (o + 31) = a_hookTold) (out : Int32 × Int32 × Int32 × Int32 × Int32 × Int32 × (Nat → Int32) × (Nat → Int32) × (Nat → Int32) × (Nat → Int32)) (hf : f14_hooks p1 i_thrown i_taped i_houses i_hookLeast i_hookMany a_tape a_house a_hook a_hookBest a_hookTold = some out) : GMet l yX14_hooks cX14_hooks 3 (some .int) (9) (252) G [.ref o, .int p1] K I J X A B Q (some (.int out.1)) K (ov I [(1100, o, out.2.1), (1102, o, out.2.2.1), (1161, o, out.2.2.2.1), (1162, o, out.2.2.2.2.1), (1163, o, out.2.2.2.2.2.1)]) J X (ova A [((o + 1), a_tape), ((o + 28), out.2.2.2.2.2.2.1), ((o + 29), out.2.2.2.2.2.2.2.1), ((o + 30), out.2.2.2.2.2.2.2.2.1), ((o + 31), out.2.2.2.2.2.2.2.2.2)]) B Q 0 0 := by
  refine GMet.of (y := yX14_hooks) rfl (Nat.le_of_ble_eq_true rfl) rfl ?_
  intro p e s m below meth c ls hx hb hr hml hlocks hts hown hname hG hR hl
  have hown : s.vm.findClass RX14 = some m.cls := hown
  have k_a_tape : K (o + 1) = some (.inr (0, 740)) := (shM.2 0 _ rfl).1
  have k_a_house : K (o + 28) = some (.inr (0, 12)) := (shM.2 27 _ rfl).1
  have k_a_hook : K (o + 29) = some (.inr (0, 6)) := (shM.2 28 _ rfl).1
  have k_a_hookBest : K (o + 30) = some (.inr (0, 6)) := (shM.2 29 _ rfl).1
  have k_a_hookTold : K (o + 31) = some (.inr (0, 6)) := (shM.2 30 _ rfl).1
  have hN_A : nda [(o + 1), (o + 28), (o + 29), (o + 30), (o + 31)] := nd_off o [1, 28, 29, 30, 31] rfl
  have hR : RS G K (ov I [(1100, o, i_thrown), (1102, o, i_taped), (1161, o, i_houses), (1162, o, i_hookLeast), (1163, o, i_hookMany)]) J X (ova A [((o + 1), a_tape), ((o + 28), a_house), ((o + 29), a_hook), ((o + 30), a_hookBest), ((o + 31), a_hookTold)]) B Q s.heap := hR.to (Eq.symm (ov_sc e_i_thrown (ov_sc e_i_taped (ov_sc e_i_houses (ov_sc e_i_hookLeast (ov_sc e_i_hookMany rfl)))))) rfl rfl (Eq.symm (ova_sc e_a_tape (ova_sc e_a_house (ova_sc e_a_hook (ova_sc e_a_hookBest (ova_sc e_a_hookTold rfl)))))) rfl rfl
  have hS : va_S (gA G) s.heap s.heap [] := va_S.rf
  have hend : ∀ (pc : Nat) (H : Heap) (locs : List Loc) (ls : Array Slot), decode cX14_hooks pc = .ok (.ireturn, 1) → RS G K (ov I [(1100, o, out.2.1), (1102, o, out.2.2.1), (1161, o, out.2.2.2.1), (1162, o, out.2.2.2.2.1), (1163, o, out.2.2.2.2.2.1)]) J X (ova A [((o + 1), a_tape), ((o + 28), out.2.2.2.2.2.2.1), ((o + 29), out.2.2.2.2.2.2.2.1), ((o + 30), out.2.2.2.2.2.2.2.2.1), ((o + 31), out.2.2.2.2.2.2.2.2.2)]) B Q H → va_S (gA G) s.heap H locs → W p l e ({ frames := 9, cells := 0, slots := 0, locals := 252 } : Room) s m ([.ref o, .int p1] : List Value).toArray below meth c H locs 0 0 (MQ below (gQ G (some (.int out.1)) K (ov I [(1100, o, out.2.1), (1102, o, out.2.2.1), (1161, o, out.2.2.2.1), (1162, o, out.2.2.2.2.1), (1163, o, out.2.2.2.2.2.1)]) J X (ova A [((o + 1), a_tape), ((o + 28), out.2.2.2.2.2.2.1), ((o + 29), out.2.2.2.2.2.2.2.1), ((o + 30), out.2.2.2.2.2.2.2.2.1), ((o + 31), out.2.2.2.2.2.2.2.2.2)]) B Q) ([.ref o, .int p1] : List Value).toArray s 0 0 (gA G)) (F0 m pc ls [.int out.1]) := fun pc H locs ls hd hR hS => g_iret hx hb hr hlocks hG hR hS rfl hd
  generalize MQ below (gQ G (some (.int out.1)) K (ov I [(1100, o, out.2.1), (1102, o, out.2.2.1), (1161, o, out.2.2.2.1), (1162, o, out.2.2.2.2.1), (1163, o, out.2.2.2.2.2.1)]) J X (ova A [((o + 1), a_tape), ((o + 28), out.2.2.2.2.2.2.1), ((o + 29), out.2.2.2.2.2.2.2.1), ((o + 30), out.2.2.2.2.2.2.2.2.1), ((o + 31), out.2.2.2.2.2.2.2.2.2)]) B Q) ([.ref o, .int p1] : List Value).toArray s 0 0 (gA G) = Z at hend ⊢
  generalize ([.ref o, .int p1] : List Value).toArray = args at hts hend ⊢
  unfold f14_hooks at hf
  refine lv_aload_n hx hb dX14_hooks_0 rfl (lv_at hl 0 rfl) ?_
  refine lv_iconst (v := 0) hx hb dX14_hooks_1 li_0 ?_
  refine n_puti (li' := [(1100, o, (0 : Int32)), (1102, o, i_taped), (1161, o, i_houses), (1162, o, i_hookLeast), (1163, o, i_hookMany)]) hx hb hts hown hG hR hS gPi_X14_148_11 shM.1 0 rfl rfl rfl dX14_hooks_2 (fun H locs hR hS => ?_)
  refine lv_aload_n hx hb dX14_hooks_5 rfl (lv_at hl 0 rfl) ?_
  refine lv_aload_n hx hb dX14_hooks_6 rfl (lv_at hl 0 rfl) ?_
  obtain ⟨rr1, hrr1, hf⟩ := bind_s hf
  refine g0_cV (rm := (0, 0)) (As := []) (rest := [.ref o]) ⟨hx, hb, hml, hown, hts⟩ hG hR hS (m14_take l G K (ov I [(1100, o, (0 : Int32)), (1102, o, i_taped), (1161, o, i_houses), (1162, o, i_hookLeast), (1163, o, i_hookMany)]) J X (ova A [((o + 1), a_tape), ((o + 28), a_house), ((o + 29), a_hook), ((o + 30), a_hookBest), ((o + 31), a_hookTold)]) B Q o shM i_taped (ov_get 1 rfl rfl) rr1 hrr1) (cwV 0 hts gi_X14_235 rfl rfl rfl hd_X14_take ⟨Nat.le_of_ble_eq_true rfl, Nat.le_of_ble_eq_true rfl⟩) shM.1 rfl rfl hl.1 (Nat.le_of_ble_eq_true rfl) dX14_hooks_7 ⟨Nat.le_refl _, Nat.le_refl _⟩ rfl (fun H locs hR hS => ?_)
  have hR : RS G K (ov I [(1100, o, (0 : Int32)), (1102, o, rr1.2), (1161, o, i_houses), (1162, o, i_hookLeast), (1163, o, i_hookMany)]) J X (ova A [((o + 1), a_tape), ((o + 28), a_house), ((o + 29), a_hook), ((o + 30), a_hookBest), ((o + 31), a_hookTold)]) B Q H := hR.to (ov_merge (l := [(1100, o, (0 : Int32)), (1102, o, i_taped), (1161, o, i_houses), (1162, o, i_hookLeast), (1163, o, i_hookMany)]) rfl [1] [(1102, o, rr1.2)] rfl rfl) rfl rfl rfl rfl rfl
  refine n_puti (li' := [(1100, o, (0 : Int32)), (1102, o, rr1.2), (1161, o, rr1.1), (1162, o, i_hookLeast), (1163, o, i_hookMany)]) hx hb hts hown hG hR hS gPi_X14_411_11 shM.1 2 rfl rfl rfl dX14_hooks_10 (fun H locs hR hS => ?_)
  refine lv_aload_n hx hb dX14_hooks_13 rfl (lv_at hl 0 rfl) ?_
  refine n_geti (v := rr1.1) hx hb hts hown hG hR gFi_X14_411_11 shM.1 (ov_get 2 rfl rfl) dX14_hooks_14 ?_
  refine lv_iconst (v := 1) hx hb dX14_hooks_17 li_1 ?_
  refine lv_bipush (v := 12) hx hb dX14_hooks_18 lb_12 ?_
  obtain ⟨rr2, hrr2, hf⟩ := bind_s hf
  refine g0_cS (rm := (0, 0)) (As := [.int rr1.1, .int (1 : Int32), .int (12 : Int32)]) (rest := []) ⟨hx, hb, hml, hown, hts⟩ hG hR hS (m14_isIn l G K (ov I [(1100, o, (0 : Int32)), (1102, o, rr1.2), (1161, o, rr1.1), (1162, o, i_hookLeast), (1163, o, i_hookMany)]) J X (ova A [((o + 1), a_tape), ((o + 28), a_house), ((o + 29), a_hook), ((o + 30), a_hookBest), ((o + 31), a_hookTold)]) B Q rr1.1 (1 : Int32) (12 : Int32) rr2 hrr2) (cwS 3 hts gi_X14_219 rfl rfl rfl hd_X14_isIn ⟨Nat.le_of_ble_eq_true rfl, Nat.le_of_ble_eq_true rfl⟩) rfl hl.1 (Nat.le_of_ble_eq_true rfl) dX14_hooks_20 ⟨Nat.le_refl _, Nat.le_refl _⟩ rfl (fun H locs hR hS => ?_)
  refine lv_if_eq (tgt := 44) hx hb dX14_hooks_23 (by decide) (fun c3 => ?_) (fun c3 => ?_)
  · have hf := ite_t c3 hf
    refine lv_iconst (v := -1) hx hb dX14_hooks_44 li_m1 ?_
    obtain rfl := some_i hf
    exact hend _ _ _ _ dX14_hooks_45 hR hS
  · have hf := ite_f c3 hf
    refine lv_iload_n hx hb dX14_hooks_26 rfl (lv_at hl 1 rfl) ?_
    refine lv_iconst (v := 1) hx hb dX14_hooks_27 li_1 ?_
    refine lv_bipush (v := 6) hx hb dX14_hooks_28 lb_6 ?_
    obtain ⟨rr4, hrr4, hf⟩ := bind_s hf
    refine g0_cS (rm := (0, 0)) (As := [.int p1, .int (1 : Int32), .int (6 : Int32)]) (rest := []) ⟨hx, hb, hml, hown, hts⟩ hG hR hS (m14_isIn l G K (ov I [(1100, o, (0 : Int32)), (1102, o, rr1.2), (1161, o, rr1.1), (1162, o, i_hookLeast), (1163, o, i_hookMany)]) J X (ova A [((o + 1), a_tape), ((o + 28), a_house), ((o + 29), a_hook), ((o + 30), a_hookBest), ((o + 31), a_hookTold)]) B Q p1 (1 : Int32) (6 : Int32) rr4 hrr4) (cwS 3 hts gi_X14_219 rfl rfl rfl hd_X14_isIn ⟨Nat.le_of_ble_eq_true rfl, Nat.le_of_ble_eq_true rfl⟩) rfl hl.1 (Nat.le_of_ble_eq_true rfl) dX14_hooks_30 ⟨Nat.le_refl _, Nat.le_refl _⟩ rfl (fun H locs hR hS => ?_)
    refine lv_if_eq (tgt := 44) hx hb dX14_hooks_33 (by decide) (fun c5 => ?_) (fun c5 => ?_)
    · have hf := ite_t c5 hf
      refine lv_iconst (v := -1) hx hb dX14_hooks_44 li_m1 ?_
      obtain rfl := some_i hf
      exact hend _ _ _ _ dX14_hooks_45 hR hS
    · have hf := ite_f c5 hf
      refine lv_iload_n hx hb dX14_hooks_36 rfl (lv_at hl 1 rfl) ?_
      refine lv_aload_n hx hb dX14_hooks_37 rfl (lv_at hl 0 rfl) ?_
      refine n_geti (v := rr1.1) hx hb hts hown hG hR gFi_X14_411_11 shM.1 (ov_get 2 rfl rfl) dX14_hooks_38 ?_
      refine lv_icmp_le (tgt := 46) hx hb dX14_hooks_41 (by decide) (fun c6 => ?_) (fun c6 => ?_)
      · have hf := ite_t c6 hf
        refine lv_iconst (v := 0) hx hb dX14_hooks_46 li_0 ?_
        refine lv_istore_n (lv' := [(2, .int (0 : Int32)), (0, .ref o), (1, .int p1)]) hx hb dX14_hooks_47 rfl hl (by decide) rfl (fun ls hl => ?_)
        obtain ⟨rl7, hw7, hfo7⟩ := bind_s hf
        have hx7_0 : ∀ (x7_0 : (Nat → Int32)), f14_hooks_e7_0 p1 a_hook a_hookBest a_hookTold rr1 x7_0 = some out → ∀ (H : Heap) (locs : List Loc) (ls : Array Slot), RS G K (ov I [(1100, o, (0 : Int32)), (1102, o, rr1.2), (1161, o, rr1.1), (1162, o, i_hookLeast), (1163, o, i_hookMany)]) J X (ova A [((o + 1), a_tape), ((o + 28), x7_0), ((o + 29), a_hook), ((o + 30), a_hookBest), ((o + 31), a_hookTold)]) B Q H → va_S (gA G) s.heap H locs → lv_has ls 3 [(0, .ref o), (1, .int p1)] → W p l e ({ frames := 9, cells := 0, slots := 0, locals := 252 } : Room) s m args below meth c H locs 0 0 Z (F0 m 108 ls []) := by
          intro x7_0 hf H locs ls hR hS hl
          unfold f14_hooks_e7_0 at hf
          refine lv_aload_n hx hb dX14_hooks_108 rfl (lv_at hl 0 rfl) ?_
          refine lv_iconst (v := -1) hx hb dX14_hooks_109 li_m1 ?_
          refine n_puti (li' := [(1100, o, (0 : Int32)), (1102, o, rr1.2), (1161, o, rr1.1), (1162, o, (-1 : Int32)), (1163, o, i_hookMany)]) hx hb hts hown hG hR hS gPi_X14_414_11 shM.1 3 rfl rfl rfl dX14_hooks_110 (fun H locs hR hS => ?_)
          refine lv_aload_n hx hb dX14_hooks_113 rfl (lv_at hl 0 rfl) ?_
          refine lv_iconst (v := 0) hx hb dX14_hooks_114 li_0 ?_
          refine lv_iload_n hx hb dX14_hooks_115 rfl (lv_at hl 1 rfl) ?_
          refine lv_iconst (v := 0) hx hb dX14_hooks_116 li_0 ?_
          obtain ⟨rr8, hrr8, hf⟩ := bind_s hf
          refine g0_cVv (rm := (8, 224)) (As := [.int (0 : Int32), .int p1, .int (0 : Int32)]) (rest := []) ⟨hx, hb, hml, hown, hts⟩ hG hR hS (m14_tryHooks l 8 G K (ov I [(1100, o, (0 : Int32)), (1102, o, rr1.2), (1161, o, rr1.1), (1162, o, (-1 : Int32)), (1163, o, i_hookMany)]) J X (ova A [((o + 1), a_tape), ((o + 28), x7_0), ((o + 29), a_hook), ((o + 30), a_hookBest), ((o + 31), a_hookTold)]) B Q o shM (0 : Int32) p1 (0 : Int32) rr1.1 (-1 : Int32) x7_0 a_hook a_hookBest (ov_get 2 rfl rfl) (ov_get 3 rfl rfl) (ova_get 1 hN_A rfl) (ova_get 2 hN_A rfl) (ova_get 3 hN_A rfl) rr8 hrr8) (cwV 3 hts gi_X14_417 rfl rfl rfl hd_X14_tryHooks ⟨Nat.le_of_ble_eq_true rfl, Nat.le_of_ble_eq_true rfl⟩) shM.1 rfl rfl hl.1 (Nat.le_of_ble_eq_true rfl) dX14_hooks_117 ⟨Nat.le_refl _, Nat.le_refl _⟩ rfl (fun H locs hR hS => ?_)
          have hR : RS G K (ov I [(1100, o, (0 : Int32)), (1102, o, rr1.2), (1161, o, rr1.1), (1162, o, rr8.1), (1163, o, i_hookMany)]) J X (ova A [((o + 1), a_tape), ((o + 28), x7_0), ((o + 29), rr8.2.1), ((o + 30), rr8.2.2), ((o + 31), a_hookTold)]) B Q H := hR.to (ov_merge (l := [(1100, o, (0 : Int32)), (1102, o, rr1.2), (1161, o, rr1.1), (1162, o, (-1 : Int32)), (1163, o, i_hookMany)]) rfl [3] [(1162, o, rr8.1)] rfl rfl) rfl rfl (ova_merge (l := [((o + 1), a_tape), ((o + 28), x7_0), ((o + 29), a_hook), ((o + 30), a_hookBest), ((o + 31), a_hookTold)]) hN_A [1, 2, 3] [((o + 28), x7_0), ((o + 29), rr8.2.1), ((o + 30), rr8.2.2)] rfl rfl) rfl rfl
          refine lv_aload_n hx hb dX14_hooks_120 rfl (lv_at hl 0 rfl) ?_
          refine lv_iload_n hx hb dX14_hooks_121 rfl (lv_at hl 1 rfl) ?_
          refine n_puti (li' := [(1100, o, (0 : Int32)), (1102, o, rr1.2), (1161, o, rr1.1), (1162, o, rr8.1), (1163, o, p1)]) hx hb hts hown hG hR hS gPi_X14_420_11 shM.1 4 rfl rfl rfl dX14_hooks_122 (fun H locs hR hS => ?_)
          refine lv_iconst (v := 0) hx hb dX14_hooks_125 li_0 ?_
          refine lv_istore_n (lv' := [(2, .int (0 : Int32)), (0, .ref o), (1, .int p1)]) hx hb dX14_hooks_126 rfl hl (by decide) rfl (fun ls hl => ?_)
          obtain ⟨rl9, hw9, hfo9⟩ := bind_s hf
          have hx9_0 : ∀ (x9_0 : (Nat → Int32)), f14_hooks_e9_0 p1 rr1 x7_0 rr8 x9_0 = some out → ∀ (H : Heap) (locs : List Loc) (ls : Array Slot), RS G K (ov I [(1100, o, (0 : Int32)), (1102, o, rr1.2), (1161, o, rr1.1), (1162, o, rr8.1), (1163, o, p1)]) J X (ova A [((o + 1), a_tape), ((o + 28), x7_0), ((o + 29), rr8.2.1), ((o + 30), rr8.2.2), ((o + 31), x9_0)]) B Q H → va_S (gA G) s.heap H locs → lv_has ls 3 [(0, .ref o)] → W p l e ({ frames := 9, cells := 0, slots := 0, locals := 252 } : Room) s m args below meth c H locs 0 0 Z (F0 m 150 ls []) := by
            intro x9_0 hf H locs ls hR hS hl
            unfold f14_hooks_e9_0 at hf
            refine lv_aload_n hx hb dX14_hooks_150 rfl (lv_at hl 0 rfl) ?_
            refine n_geti (v := rr8.1) hx hb hts hown hG hR gFi_X14_414_11 shM.1 (ov_get 3 rfl rfl) dX14_hooks_151 ?_
            obtain rfl := some_i hf
            exact hend _ _ _ _ dX14_hooks_154 hR hS
          refine whl_walk (P := fun (s9 : Int32 × (Nat → Int32)) => ∀ (H : Heap) (locs : List Loc) (ls : Array Slot), RS G K (ov I [(1100, o, (0 : Int32)), (1102, o, rr1.2), (1161, o, rr1.1), (1162, o, rr8.1), (1163, o, p1)]) J X (ova A [((o + 1), a_tape), ((o + 28), x7_0), ((o + 29), rr8.2.1), ((o + 30), rr8.2.2), ((o + 31), s9.2)]) B Q H → va_S (gA G) s.heap H locs → lv_has ls 3 [(0, .ref o), (1, .int p1), (2, .int s9.1)] → W p l e ({ frames := 9, cells := 0, slots := 0, locals := 252 } : Room) s m args below meth c H locs 0 0 Z (F0 m 127 ls [])) (r := rl9) ?_ FU _ hw9 _ _ _ hR hS (lv_sub hl [1, 2, 0] rfl)
          clear hR hS hl hf
          intro s9 o9 hf hk9 H locs ls hR hS hl
          obtain ⟨w9_2, w9_a_hookTold⟩ := s9
          have hf : f14_hooks_s9 p1 rr8 w9_2 w9_a_hookTold = some o9 := hf
          have hR : RS G K (ov I [(1100, o, (0 : Int32)), (1102, o, rr1.2), (1161, o, rr1.1), (1162, o, rr8.1), (1163, o, p1)]) J X (ova A [((o + 1), a_tape), ((o + 28), x7_0), ((o + 29), rr8.2.1), ((o + 30), rr8.2.2), ((o + 31), w9_a_hookTold)]) B Q H := hR
          have hl : lv_has ls 3 [(0, .ref o), (1, .int p1), (2, .int w9_2)] := hl
          unfold f14_hooks_s9 at hf
          refine lv_iload_n hx hb dX14_hooks_127 rfl (lv_at hl 2 rfl) ?_
          refine lv_iload_n hx hb dX14_hooks_128 rfl (lv_at hl 1 rfl) ?_
          refine lv_icmp_ge (tgt := 150) hx hb dX14_hooks_129 (by decide) (fun c10 => ?_) (fun c10 => ?_)
          · have hf := ite_t c10 hf
            obtain rfl := some_i hf
            replace hk9 : _ = rl9 := hk9
            subst hk9
            exact hx9_0 w9_a_hookTold hfo9 _ _ _ hR hS (lv_sub hl [0] rfl)
          · have hf := ite_f c10 hf
            refine lv_aload_n hx hb dX14_hooks_132 rfl (lv_at hl 0 rfl) ?_
            refine g_getr (b := (o + 31)) hx hb hts hown hG hR gFx_X14_102_11 shM.1 ((shM.2 30 _ rfl).2) dX14_hooks_133 ?_
            refine lv_iload_n hx hb dX14_hooks_136 rfl (lv_at hl 2 rfl) ?_
            refine lv_aload_n hx hb dX14_hooks_137 rfl (lv_at hl 0 rfl) ?_
            refine g_getr (b := (o + 30)) hx hb hts hown hG hR gFx_X14_99_11 shM.1 ((shM.2 29 _ rfl).2) dX14_hooks_138 ?_
            refine lv_iload_n hx hb dX14_hooks_141 rfl (lv_at hl 2 rfl) ?_
            obtain ⟨c11, hf⟩ := gd_some hf
            obtain ⟨v12, ev12, hf⟩ := lt_some hf
            refine n_iald (x := rr8.2.2) hx hb hG hR k_a_hookBest c11 (ova_get 3 hN_A rfl) ev12 dX14_hooks_142 ?_
            obtain ⟨c13, hf⟩ := gd_some hf
            obtain ⟨u14, eu14, hf⟩ := lt_some hf
            refine n_iast (la' := [((o + 1), a_tape), ((o + 28), x7_0), ((o + 29), rr8.2.1), ((o + 30), rr8.2.2), ((o + 31), u14)]) hx hb hG hR hS k_a_hookTold c13 hN_A 4 rfl eu14 rfl dX14_hooks_143 (fun H locs hR hS => ?_)
            obtain ⟨v15, ev15, hf⟩ := lt_some hf
            refine lv_iinc (k := 2) (v := v15) (lv' := [(2, .int v15), (0, .ref o), (1, .int p1)]) hx hb dX14_hooks_144 hl rfl (by rw [ev15]; rfl) (by decide) rfl (fun ls hl => ?_)
            refine lv_goto (tgt := 127) hx hb dX14_hooks_147 (by decide) ?_
            obtain rfl := some_i hf
            exact hk9 _ _ _ hR hS (lv_sub hl [1, 2, 0] rfl)
        have hx7_1 : ∀ (x7_1 : Int32 × Int32 × Int32 × Int32 × Int32 × Int32 × (Nat → Int32) × (Nat → Int32) × (Nat → Int32) × (Nat → Int32)), f14_hooks_e7_1 x7_1 = some out → ∀ (pc : Nat) (H : Heap) (locs : List Loc) (ls : Array Slot), decode cX14_hooks pc = .ok (.ireturn, 1) → RS G K (ov I [(1100, o, x7_1.2.1), (1102, o, x7_1.2.2.1), (1161, o, x7_1.2.2.2.1), (1162, o, x7_1.2.2.2.2.1), (1163, o, x7_1.2.2.2.2.2.1)]) J X (ova A [((o + 1), a_tape), ((o + 28), x7_1.2.2.2.2.2.2.1), ((o + 29), x7_1.2.2.2.2.2.2.2.1), ((o + 30), x7_1.2.2.2.2.2.2.2.2.1), ((o + 31), x7_1.2.2.2.2.2.2.2.2.2)]) B Q H → va_S (gA G) s.heap H locs → W p l e ({ frames := 9, cells := 0, slots := 0, locals := 252 } : Room) s m args below meth c H locs 0 0 Z (F0 m pc ls [.int x7_1.1]) := by
          intro x7_1 hf pc H locs ls hd hR hS
          unfold f14_hooks_e7_1 at hf
          obtain rfl := some_i hf
          exact hend _ _ _ _ hd hR hS
        refine whl_walk (P := fun (s7 : Int32 × (Nat → Int32)) => ∀ (H : Heap) (locs : List Loc) (ls : Array Slot), RS G K (ov I [(1100, o, (0 : Int32)), (1102, o, rr1.2), (1161, o, rr1.1), (1162, o, i_hookLeast), (1163, o, i_hookMany)]) J X (ova A [((o + 1), a_tape), ((o + 28), s7.2), ((o + 29), a_hook), ((o + 30), a_hookBest), ((o + 31), a_hookTold)]) B Q H → va_S (gA G) s.heap H locs → lv_has ls 3 [(0, .ref o), (1, .int p1), (2, .int s7.1)] → W p l e ({ frames := 9, cells := 0, slots := 0, locals := 252 } : Room) s m args below meth c H locs 0 0 Z (F0 m 48 ls [])) (r := rl7) ?_ FU _ hw7 _ _ _ hR hS (lv_sub hl [1, 2, 0] rfl)
        clear hR hS hl hf
        intro s7 o7 hf hk7 H locs ls hR hS hl
        obtain ⟨w7_2, w7_a_house⟩ := s7
        have hf : f14_hooks_s7 i_hookLeast i_hookMany a_tape a_hook a_hookBest a_hookTold rr1 w7_2 w7_a_house = some o7 := hf
        have hR : RS G K (ov I [(1100, o, (0 : Int32)), (1102, o, rr1.2), (1161, o, rr1.1), (1162, o, i_hookLeast), (1163, o, i_hookMany)]) J X (ova A [((o + 1), a_tape), ((o + 28), w7_a_house), ((o + 29), a_hook), ((o + 30), a_hookBest), ((o + 31), a_hookTold)]) B Q H := hR
        have hl : lv_has ls 3 [(0, .ref o), (1, .int p1), (2, .int w7_2)] := hl
        unfold f14_hooks_s7 at hf
        refine lv_iload_n hx hb dX14_hooks_48 rfl (lv_at hl 2 rfl) ?_
        refine lv_aload_n hx hb dX14_hooks_49 rfl (lv_at hl 0 rfl) ?_
        refine n_geti (v := rr1.1) hx hb hts hown hG hR gFi_X14_411_11 shM.1 (ov_get 2 rfl rfl) dX14_hooks_50 ?_
        refine lv_icmp_ge (tgt := 108) hx hb dX14_hooks_53 (by decide) (fun c16 => ?_) (fun c16 => ?_)
        · have hf := ite_t c16 hf
          obtain rfl := some_i hf
          replace hk7 : _ = rl7 := hk7
          subst hk7
          exact hx7_0 w7_a_house (el_l hfo7) _ _ _ hR hS (lv_sub hl [0, 1] rfl)
        · have hf := ite_f c16 hf
          refine lv_aload_n hx hb dX14_hooks_56 rfl (lv_at hl 0 rfl) ?_
          refine g_getr (b := (o + 1)) hx hb hts hown hG hR gFx_X14_7_11 shM.1 ((shM.2 0 _ rfl).2) dX14_hooks_57 ?_
          refine lv_iload_n hx hb dX14_hooks_60 rfl (lv_at hl 2 rfl) ?_
          obtain ⟨c17, hf⟩ := gd_some hf
          obtain ⟨v18, ev18, hf⟩ := lt_some hf
          refine n_iald (x := a_tape) hx hb hG hR k_a_tape c17 (ova_get 0 hN_A rfl) ev18 dX14_hooks_61 ?_
          refine lv_bipush (v := 99) hx hb dX14_hooks_62 lb_99 ?_
          refine lv_icmp_gt (tgt := 88) hx hb dX14_hooks_64 (by decide) (fun c19 => ?_) (fun c19 => ?_)
          · have hf := ite_t c19 hf
            refine lv_iconst (v := -1) hx hb dX14_hooks_88 li_m1 ?_
            obtain rfl := some_i hf
            replace hk7 : _ = rl7 := hk7
            subst hk7
            exact hx7_1 ((-1 : Int32), (0 : Int32), rr1.2, rr1.1, i_hookLeast, i_hookMany, w7_a_house, a_hook, a_hookBest, a_hookTold) (el_r hfo7) _ _ _ _ dX14_hooks_89 hR hS
          · have hf := ite_f c19 hf
            refine lv_iload_n hx hb dX14_hooks_67 rfl (lv_at hl 2 rfl) ?_
            have hj90 : ∀ (_ : Unit), f14_hooks_j90 a_tape w7_2 w7_a_house = some o7 → ∀ (H : Heap) (locs : List Loc) (ls : Array Slot), RS G K (ov I [(1100, o, (0 : Int32)), (1102, o, rr1.2), (1161, o, rr1.1), (1162, o, i_hookLeast), (1163, o, i_hookMany)]) J X (ova A [((o + 1), a_tape), ((o + 28), w7_a_house), ((o + 29), a_hook), ((o + 30), a_hookBest), ((o + 31), a_hookTold)]) B Q H → va_S (gA G) s.heap H locs → lv_has ls 3 [(0, .ref o), (1, .int p1), (2, .int w7_2)] → W p l e ({ frames := 9, cells := 0, slots := 0, locals := 252 } : Room) s m args below meth c H locs 0 0 Z (F0 m 90 ls []) := by
              intro _ hf H locs ls hR hS hl
              unfold f14_hooks_j90 at hf
              refine lv_aload_n hx hb dX14_hooks_90 rfl (lv_at hl 0 rfl) ?_
              refine g_getr (b := (o + 28)) hx hb hts hown hG hR gFx_X14_93_11 shM.1 ((shM.2 27 _ rfl).2) dX14_hooks_91 ?_
              refine lv_iload_n hx hb dX14_hooks_94 rfl (lv_at hl 2 rfl) ?_
              refine lv_aload_n hx hb dX14_hooks_95 rfl (lv_at hl 0 rfl) ?_
              refine g_getr (b := (o + 1)) hx hb hts hown hG hR gFx_X14_7_11 shM.1 ((shM.2 0 _ rfl).2) dX14_hooks_96 ?_
              refine lv_iload_n hx hb dX14_hooks_99 rfl (lv_at hl 2 rfl) ?_
              obtain ⟨c20, hf⟩ := gd_some hf
              obtain ⟨v21, ev21, hf⟩ := lt_some hf
              refine n_iald (x := a_tape) hx hb hG hR k_a_tape c20 (ova_get 0 hN_A rfl) ev21 dX14_hooks_100 ?_
              obtain ⟨c22, hf⟩ := gd_some hf
              obtain ⟨u23, eu23, hf⟩ := lt_some hf
              refine n_iast (la' := [((o + 1), a_tape), ((o + 28), u23), ((o + 29), a_hook), ((o + 30), a_hookBest), ((o + 31), a_hookTold)]) hx hb hG hR hS k_a_house c22 hN_A 1 rfl eu23 rfl dX14_hooks_101 (fun H locs hR hS => ?_)
              obtain ⟨v24, ev24, hf⟩ := lt_some hf
              refine lv_iinc (k := 2) (v := v24) (lv' := [(2, .int v24), (0, .ref o), (1, .int p1)]) hx hb dX14_hooks_102 hl rfl (by rw [ev24]; rfl) (by decide) rfl (fun ls hl => ?_)
              refine lv_goto (tgt := 48) hx hb dX14_hooks_105 (by decide) ?_
              obtain rfl := some_i hf
              exact hk7 _ _ _ hR hS (lv_sub hl [1, 2, 0] rfl)
            refine lv_if_le (tgt := 90) hx hb dX14_hooks_68 (by decide) (fun c25 => ?_) (fun c25 => ?_)
            · have hf := ite_t c25 hf
              exact hj90 () hf _ _ _ hR hS (lv_sub hl [0, 1, 2] rfl)
            · have hf := ite_f c25 hf
              refine lv_aload_n hx hb dX14_hooks_71 rfl (lv_at hl 0 rfl) ?_
              refine g_getr (b := (o + 1)) hx hb hts hown hG hR gFx_X14_7_11 shM.1 ((shM.2 0 _ rfl).2) dX14_hooks_72 ?_
              refine lv_iload_n hx hb dX14_hooks_75 rfl (lv_at hl 2 rfl) ?_
              obtain ⟨c26, hf⟩ := gd_some hf
              obtain ⟨v27, ev27, hf⟩ := lt_some hf
              refine n_iald (x := a_tape) hx hb hG hR k_a_tape c26 (ova_get 0 hN_A rfl) ev27 dX14_hooks_76 ?_
              refine lv_aload_n hx hb dX14_hooks_77 rfl (lv_at hl 0 rfl) ?_
              refine g_getr (b := (o + 1)) hx hb hts hown hG hR gFx_X14_7_11 shM.1 ((shM.2 0 _ rfl).2) dX14_hooks_78 ?_
              refine lv_iload_n hx hb dX14_hooks_81 rfl (lv_at hl 2 rfl) ?_
              refine lv_iconst (v := 1) hx hb dX14_hooks_82 li_1 ?_
              obtain ⟨v28, ev28, hf⟩ := lt_some hf
              refine n_isub hx hb ev28 dX14_hooks_83 ?_
              obtain ⟨c29, hf⟩ := gd_some hf
              obtain ⟨v30, ev30, hf⟩ := lt_some hf
              refine n_iald (x := a_tape) hx hb hG hR k_a_tape c29 (ova_get 0 hN_A rfl) ev30 dX14_hooks_84 ?_
              refine lv_icmp_gt (tgt := 90) hx hb dX14_hooks_85 (by decide) (fun c31 => ?_) (fun c31 => ?_)
              · have hf := ite_t c31 hf
                exact hj90 () hf _ _ _ hR hS (lv_sub hl [0, 1, 2] rfl)
              · have hf := ite_f c31 hf
                refine lv_iconst (v := -1) hx hb dX14_hooks_88 li_m1 ?_
                obtain rfl := some_i hf
                replace hk7 : _ = rl7 := hk7
                subst hk7
                exact hx7_1 ((-1 : Int32), (0 : Int32), rr1.2, rr1.1, i_hookLeast, i_hookMany, w7_a_house, a_hook, a_hookBest, a_hookTold) (el_r hfo7) _ _ _ _ dX14_hooks_89 hR hS
      · have hf := ite_f c6 hf
        refine lv_iconst (v := -1) hx hb dX14_hooks_44 li_m1 ?_
        obtain rfl := some_i hf
        exact hend _ _ _ _ dX14_hooks_45 hR hS
noncomputable def f14_tryAims_e3_0 (q_X14_tryAims : Int32 → Int32 → Int32 → Int32 → Int32 → (Nat → Int32) → (Nat → Int32) → (Nat → Int32) → (Nat → Int32) → (Nat → Int32) → (Nat → Int32) → (Nat → Int32) → (Nat → Int32) → Option (Int32 × Int32 × (Nat → Int32) × (Nat → Int32) × (Nat → Int32) × (Nat → Int32) × (Nat → Int32) × (Nat → Int32) × (Nat → Int32))) (p1 : Int32) (p2 : Int32) (i_lost : Int32) (i_aimMany : Int32) (a_now : Nat → Int32) (x3_0 : Int32 × Int32 × (Nat → Int32) × (Nat → Int32) × (Nat → Int32) × (Nat → Int32) × (Nat → Int32) × (Nat → Int32) × (Nat → Int32)) : Option (Int32 × Int32 × (Nat → Int32) × (Nat → Int32) × (Nat → Int32) × (Nat → Int32) × (Nat → Int32) × (Nat → Int32) × (Nat → Int32)) :=
  gd (inb p1 3) <|
  lt (upd x3_0.2.2.2.2.2.2.2.1 p1.toNatClampNeg (0 : Int32)) fun u5 =>
  (f14_minute (-1 : Int32) (0 : Int32) x3_0.1 a_now x3_0.2.2.1 x3_0.2.2.2.1 x3_0.2.2.2.2.1 x3_0.2.2.2.2.2.1).bind fun rr6 =>
  lt (p1 + (1 : Int32)) fun v7 =>
  (q_X14_tryAims v7 p2 rr6.1 x3_0.2.1 i_aimMany a_now rr6.2.1 rr6.2.2.1 rr6.2.2.2.1 rr6.2.2.2.2 x3_0.2.2.2.2.2.2.1 u5 x3_0.2.2.2.2.2.2.2.2).bind fun rr8 =>
  (f14_bringFire p1 a_now rr8.2.2.1 rr8.2.2.2.1 rr8.2.2.2.2.1 rr8.2.2.2.2.2.2.1).bind fun rr9 =>
  some (i_lost, rr8.2.1, rr9.1, rr9.2.1, rr9.2.2, rr8.2.2.2.2.2.1, rr8.2.2.2.2.2.2.1, rr8.2.2.2.2.2.2.2.1, rr8.2.2.2.2.2.2.2.2)

noncomputable def f14_tryAims_j192 (w3_5 : Int32) (j192_4 : Int32) (j192_i_lost : Int32) (j192_i_aimLeast : Int32) (j192_a_fuel : Nat → Int32) (j192_a_burn : Nat → Int32) (j192_a_wet : Nat → Int32) (j192_a_heat : Nat → Int32) (j192_a_stood : Nat → Int32) (j192_a_aimRow : Nat → Int32) (j192_a_aimBest : Nat → Int32) : Option ((Int32 × Int32 × Int32 × Int32 × (Nat → Int32) × (Nat → Int32) × (Nat → Int32) × (Nat → Int32) × (Nat → Int32) × (Nat → Int32) × (Nat → Int32)) ⊕ (Int32 × Int32 × (Nat → Int32) × (Nat → Int32) × (Nat → Int32) × (Nat → Int32) × (Nat → Int32) × (Nat → Int32) × (Nat → Int32))) :=
  lt (w3_5 + (1 : Int32)) fun v19 =>
  some (.inl (j192_4, v19, j192_i_lost, j192_i_aimLeast, j192_a_fuel, j192_a_burn, j192_a_wet, j192_a_heat, j192_a_stood, j192_a_aimRow, j192_a_aimBest))

noncomputable def f14_tryAims_s3 (q_X14_tryAims : Int32 → Int32 → Int32 → Int32 → Int32 → (Nat → Int32) → (Nat → Int32) → (Nat → Int32) → (Nat → Int32) → (Nat → Int32) → (Nat → Int32) → (Nat → Int32) → (Nat → Int32) → Option (Int32 × Int32 × (Nat → Int32) × (Nat → Int32) × (Nat → Int32) × (Nat → Int32) × (Nat → Int32) × (Nat → Int32) × (Nat → Int32))) (p1 : Int32) (p2 : Int32) (i_lost : Int32) (i_aimMany : Int32) (a_now : Nat → Int32) (w3_4 : Int32) (w3_5 : Int32) (w3_i_lost : Int32) (w3_i_aimLeast : Int32) (w3_a_fuel : Nat → Int32) (w3_a_burn : Nat → Int32) (w3_a_wet : Nat → Int32) (w3_a_heat : Nat → Int32) (w3_a_stood : Nat → Int32) (w3_a_aimRow : Nat → Int32) (w3_a_aimBest : Nat → Int32) : Option ((Int32 × Int32 × Int32 × Int32 × (Nat → Int32) × (Nat → Int32) × (Nat → Int32) × (Nat → Int32) × (Nat → Int32) × (Nat → Int32) × (Nat → Int32)) ⊕ (Int32 × Int32 × (Nat → Int32) × (Nat → Int32) × (Nat → Int32) × (Nat → Int32) × (Nat → Int32) × (Nat → Int32) × (Nat → Int32))) :=
  (f14_cells a_now).bind fun rr10 =>
  if rr10 ≤ w3_5 then
    some (.inr (w3_i_lost, w3_i_aimLeast, w3_a_fuel, w3_a_burn, w3_a_wet, w3_a_heat, w3_a_stood, w3_a_aimRow, w3_a_aimBest))
  else
    if (8 : Int32) ≤ w3_4 then
      some (.inr (w3_i_lost, w3_i_aimLeast, w3_a_fuel, w3_a_burn, w3_a_wet, w3_a_heat, w3_a_stood, w3_a_aimRow, w3_a_aimBest))
    else
      lt ((192 : Int32) * p1) fun v13 =>
      lt ((3 : Int32) * w3_5) fun v14 =>
      lt (v13 + v14) fun v15 =>
      lt (v15 + (1 : Int32)) fun v16 =>
      gd (inb v16 576) <|
      lt (w3_a_stood v16.toNatClampNeg) fun v18 =>
      if v18 = 0 then
        f14_tryAims_j192 w3_5 w3_4 w3_i_lost w3_i_aimLeast w3_a_fuel w3_a_burn w3_a_wet w3_a_heat w3_a_stood w3_a_aimRow w3_a_aimBest
      else
        lt (w3_4 + (1 : Int32)) fun v21 =>
        (f14_columns a_now).bind fun rr22 =>
        gd (¬ rr22 = 0) <|
        lt (w3_5 / rr22) fun v23 =>
        lt ((10 : Int32) * v23) fun v25 =>
        lt ((100 : Int32) + v25) fun v26 =>
        (f14_columns a_now).bind fun rr27 =>
        gd (¬ rr27 = 0) <|
        lt (w3_5 - w3_5 / rr27 * rr27) fun v28 =>
        lt (v26 + v28) fun v30 =>
        gd (inb p1 3) <|
        lt (upd w3_a_aimRow p1.toNatClampNeg v30) fun u32 =>
        (f14_minute w3_5 p2 w3_i_lost a_now w3_a_fuel w3_a_burn w3_a_wet w3_a_heat).bind fun rr33 =>
        lt (p1 + (1 : Int32)) fun v34 =>
        (q_X14_tryAims v34 p2 rr33.1 w3_i_aimLeast i_aimMany a_now rr33.2.1 rr33.2.2.1 rr33.2.2.2.1 rr33.2.2.2.2 w3_a_stood u32 w3_a_aimBest).bind fun rr35 =>
        (f14_bringFire p1 a_now rr35.2.2.1 rr35.2.2.2.1 rr35.2.2.2.2.1 rr35.2.2.2.2.2.2.1).bind fun rr36 =>
        f14_tryAims_j192 w3_5 v21 i_lost rr35.2.1 rr36.1 rr36.2.1 rr36.2.2 rr35.2.2.2.2.2.1 rr35.2.2.2.2.2.2.1 rr35.2.2.2.2.2.2.2.1 rr35.2.2.2.2.2.2.2.2

noncomputable def f14_tryAims_e38_0 (x38_0 : Int32 × Int32 × (Nat → Int32) × (Nat → Int32) × (Nat → Int32) × (Nat → Int32) × (Nat → Int32) × (Nat → Int32) × (Nat → Int32)) : Option (Int32 × Int32 × (Nat → Int32) × (Nat → Int32) × (Nat → Int32) × (Nat → Int32) × (Nat → Int32) × (Nat → Int32) × (Nat → Int32)) :=
  some x38_0

noncomputable def f14_tryAims_s38 (p1 : Int32) (a_stood : Nat → Int32) (a_aimRow : Nat → Int32) (x37_0 : Int32 × (Nat → Int32) × (Nat → Int32) × (Nat → Int32) × (Nat → Int32)) (w38_3 : Int32) (w38_a_aimBest : Nat → Int32) : Option ((Int32 × (Nat → Int32)) ⊕ (Int32 × Int32 × (Nat → Int32) × (Nat → Int32) × (Nat → Int32) × (Nat → Int32) × (Nat → Int32) × (Nat → Int32) × (Nat → Int32))) :=
  if p1 ≤ w38_3 then
    some (.inr (x37_0.1, x37_0.1, x37_0.2.1, x37_0.2.2.1, x37_0.2.2.2.1, x37_0.2.2.2.2, a_stood, a_aimRow, w38_a_aimBest))
  else
    gd (inb w38_3 3) <|
    lt (a_aimRow w38_3.toNatClampNeg) fun v41 =>
    gd (inb w38_3 3) <|
    lt (upd w38_a_aimBest w38_3.toNatClampNeg v41) fun u43 =>
    lt (w38_3 + (1 : Int32)) fun v44 =>
    some (.inl (v44, u43))

noncomputable def f14_tryAims_j48 (p1 : Int32) (a_stood : Nat → Int32) (a_aimRow : Nat → Int32) (a_aimBest : Nat → Int32) (x37_0 : Int32 × (Nat → Int32) × (Nat → Int32) × (Nat → Int32) × (Nat → Int32)) : Option (Int32 × Int32 × (Nat → Int32) × (Nat → Int32) × (Nat → Int32) × (Nat → Int32) × (Nat → Int32) × (Nat → Int32) × (Nat → Int32)) :=
  (whl (fun (s38 : Int32 × (Nat → Int32)) => f14_tryAims_s38 p1 a_stood a_aimRow x37_0 s38.1 s38.2) FU ((0 : Int32), a_aimBest)).bind fun rl38 =>
  f14_tryAims_e38_0 rl38

noncomputable def f14_tryAims_e37_0 (p1 : Int32) (i_aimLeast : Int32) (a_stood : Nat → Int32) (a_aimRow : Nat → Int32) (a_aimBest : Nat → Int32) (x37_0 : Int32 × (Nat → Int32) × (Nat → Int32) × (Nat → Int32) × (Nat → Int32)) : Option (Int32 × Int32 × (Nat → Int32) × (Nat → Int32) × (Nat → Int32) × (Nat → Int32) × (Nat → Int32) × (Nat → Int32) × (Nat → Int32)) :=
  if i_aimLeast = (-1 : Int32) then
    f14_tryAims_j48 p1 a_stood a_aimRow a_aimBest x37_0
  else
    if x37_0.1 < i_aimLeast then
      f14_tryAims_j48 p1 a_stood a_aimRow a_aimBest x37_0
    else
      some (x37_0.1, i_aimLeast, x37_0.2.1, x37_0.2.2.1, x37_0.2.2.2.1, x37_0.2.2.2.2, a_stood, a_aimRow, a_aimBest)

noncomputable def f14_tryAims_s37 (a_now : Nat → Int32) (w37_3 : Int32) (w37_i_lost : Int32) (w37_a_fuel : Nat → Int32) (w37_a_burn : Nat → Int32) (w37_a_wet : Nat → Int32) (w37_a_heat : Nat → Int32) : Option ((Int32 × Int32 × (Nat → Int32) × (Nat → Int32) × (Nat → Int32) × (Nat → Int32)) ⊕ (Int32 × (Nat → Int32) × (Nat → Int32) × (Nat → Int32) × (Nat → Int32))) :=
  if (20 : Int32) ≤ w37_3 then
    some (.inr (w37_i_lost, w37_a_fuel, w37_a_burn, w37_a_wet, w37_a_heat))
  else
    (f14_minute (-1 : Int32) (0 : Int32) w37_i_lost a_now w37_a_fuel w37_a_burn w37_a_wet w37_a_heat).bind fun rr48 =>
    lt (w37_3 + (1 : Int32)) fun v49 =>
    some (.inl (v49, rr48.1, rr48.2.1, rr48.2.2.1, rr48.2.2.2.1, rr48.2.2.2.2))

noncomputable def fb14_tryAims (q_X14_tryAims : Int32 → Int32 → Int32 → Int32 → Int32 → (Nat → Int32) → (Nat → Int32) → (Nat → Int32) → (Nat → Int32) → (Nat → Int32) → (Nat → Int32) → (Nat → Int32) → (Nat → Int32) → Option (Int32 × Int32 × (Nat → Int32) × (Nat → Int32) × (Nat → Int32) × (Nat → Int32) × (Nat → Int32) × (Nat → Int32) × (Nat → Int32))) (p1 : Int32) (p2 : Int32) (i_lost : Int32) (i_aimLeast : Int32) (i_aimMany : Int32) (a_now : Nat → Int32) (a_fuel : Nat → Int32) (a_burn : Nat → Int32) (a_wet : Nat → Int32) (a_heat : Nat → Int32) (a_stood : Nat → Int32) (a_aimRow : Nat → Int32) (a_aimBest : Nat → Int32) : Option (Int32 × Int32 × (Nat → Int32) × (Nat → Int32) × (Nat → Int32) × (Nat → Int32) × (Nat → Int32) × (Nat → Int32) × (Nat → Int32)) :=
  if p1 = i_aimMany then
    (whl (fun (s37 : Int32 × Int32 × (Nat → Int32) × (Nat → Int32) × (Nat → Int32) × (Nat → Int32)) => f14_tryAims_s37 a_now s37.1 s37.2.1 s37.2.2.1 s37.2.2.2.1 s37.2.2.2.2.1 s37.2.2.2.2.2) FU (p1, i_lost, a_fuel, a_burn, a_wet, a_heat)).bind fun rl37 =>
    f14_tryAims_e37_0 p1 i_aimLeast a_stood a_aimRow a_aimBest rl37
  else
    (f14_keepFire p1 a_now a_fuel a_burn a_wet a_stood).bind fun rr2 =>
    (whl (fun (s3 : Int32 × Int32 × Int32 × Int32 × (Nat → Int32) × (Nat → Int32) × (Nat → Int32) × (Nat → Int32) × (Nat → Int32) × (Nat → Int32) × (Nat → Int32)) => f14_tryAims_s3 q_X14_tryAims p1 p2 i_lost i_aimMany a_now s3.1 s3.2.1 s3.2.2.1 s3.2.2.2.1 s3.2.2.2.2.1 s3.2.2.2.2.2.1 s3.2.2.2.2.2.2.1 s3.2.2.2.2.2.2.2.1 s3.2.2.2.2.2.2.2.2.1 s3.2.2.2.2.2.2.2.2.2.1 s3.2.2.2.2.2.2.2.2.2.2) FU ((0 : Int32), (0 : Int32), i_lost, i_aimLeast, a_fuel, a_burn, a_wet, a_heat, rr2, a_aimRow, a_aimBest)).bind fun rl3 =>
    f14_tryAims_e3_0 q_X14_tryAims p1 p2 i_lost i_aimMany a_now rl3
noncomputable def fG_X14_tryAims : Nat → (Int32 → Int32 → Int32 → Int32 → Int32 → (Nat → Int32) → (Nat → Int32) → (Nat → Int32) → (Nat → Int32) → (Nat → Int32) → (Nat → Int32) → (Nat → Int32) → (Nat → Int32) → Option (Int32 × Int32 × (Nat → Int32) × (Nat → Int32) × (Nat → Int32) × (Nat → Int32) × (Nat → Int32) × (Nat → Int32) × (Nat → Int32)))
  | 0 => fun _ _ _ _ _ _ _ _ _ _ _ _ _ => none
  | d + 1 => fb14_tryAims (fG_X14_tryAims d)
noncomputable def f14_tryAims (d : Nat) : Int32 → Int32 → Int32 → Int32 → Int32 → (Nat → Int32) → (Nat → Int32) → (Nat → Int32) → (Nat → Int32) → (Nat → Int32) → (Nat → Int32) → (Nat → Int32) → (Nat → Int32) → Option (Int32 × Int32 × (Nat → Int32) × (Nat → Int32) × (Nat → Int32) × (Nat → Int32) × (Nat → Int32) × (Nat → Int32) × (Nat → Int32)) := (fG_X14_tryAims d)
set_option maxHeartbeats 4000000 in
theorem w14_tryAims (l : Launch) (d : Nat) (q_X14_tryAims : Int32 → Int32 → Int32 → Int32 → Int32 → (Nat → Int32) → (Nat → Int32) → (Nat → Int32) → (Nat → Int32) → (Nat → Int32) → (Nat → Int32) → (Nat → Int32) → (Nat → Int32) → Option (Int32 × Int32 × (Nat → Int32) × (Nat → Int32) × (Nat → Int32) × (Nat → Int32) × (Nat → Int32) × (Nat → Int32) × (Nat → Int32))) (ih_X14_tryAims : ∀ (G : gG) (K : gK) (I : gI) (J : gJ) (X : gX) (A : gI) (B : gJ) (Q : gX) (o : Nat) (shM : Sh K X o 11 rows11) (p1 : Int32) (p2 : Int32) (i_lost : Int32) (i_aimLeast : Int32) (i_aimMany : Int32) (a_now : Nat → Int32) (a_fuel : Nat → Int32) (a_burn : Nat → Int32) (a_wet : Nat → Int32) (a_heat : Nat → Int32) (a_stood : Nat → Int32) (a_aimRow : Nat → Int32) (a_aimBest : Nat → Int32) (e_i_lost : I 1170 o = i_lost) (e_i_aimLeast : I 1181 o = i_aimLeast) (e_i_aimMany : I 1182 o = i_aimMany) (e_a_now : A (o + 2) = a_now) (e_a_fuel : A (o + 32) = a_fuel) (e_a_burn : A (o + 33) = a_burn) (e_a_wet : A (o + 34) = a_wet) (e_a_heat : A (o + 35) = a_heat) (e_a_stood : A (o + 39) = a_stood) (e_a_aimRow : A (o + 40) = a_aimRow) (e_a_aimBest : A (o + 41) = a_aimBest) (out : Int32 × Int32 × (Nat → Int32) × (Nat → Int32) × (Nat → Int32) × (Nat → Int32) × (Nat → Int32) × (Nat → Int32) × (Nat → Int32)) (hf : q_X14_tryAims p1 p2 i_lost i_aimLeast i_aimMany a_now a_fuel a_burn a_wet a_heat a_stood a_aimRow a_aimBest = some out) , GMet l yX14_tryAims cX14_tryAims 6 none (d + 4) (d * 25 + 95) G [.ref o, .int p1, .int p2] K I J X A B Q none K (ov I [(1170, o, out.1), (1181, o, out.2.1)]) J X (ova A [((o + 2), a_now), ((o + 32), out.2.2.1), ((o + 33), out.2.2.2.1), ((o + 34), out.2.2.2.2.1), ((o + 35), out.2.2.2.2.2.1), ((o + 39), out.2.2.2.2.2.2.1), ((o + 40), out.2.2.2.2.2.2.2.1), ((o + 41), out.2.2.2.2.2.2.2.2)]) B Q 0 0) : ∀ (G : gG) (K : gK) (I : gI) (J : gJ) (X : gX) (A : gI) (B : gJ) (Q : gX) (o : Nat) (shM : Sh K X o 11 rows11) (p1 : Int32) (p2 : Int32) (i_lost : Int32) (i_aimLeast : Int32) (i_aimMany : Int32) (a_now : Nat → Int32) (a_fuel : Nat → Int32) (a_burn : Nat → Int32) (a_wet : Nat → Int32) (a_heat : Nat → Int32) (a_stood : Nat → Int32) (a_aimRow : Nat → Int32) (a_aimBest : Nat → Int32) (e_i_lost : I 1170 o = i_lost) (e_i_aimLeast : I 1181 o = i_aimLeast) (e_i_aimMany : I 1182 o = i_aimMany) (e_a_now : A (o + 2) = a_now) (e_a_fuel : A (o + 32) = a_fuel) (e_a_burn : A (o + 33) = a_burn) (e_a_wet : A (o + 34) = a_wet) (e_a_heat : A (o + 35) = a_heat) (e_a_stood : A (o + 39) = a_stood) (e_a_aimRow : A (o + 40) = a_aimRow) (e_a_aimBest : A (o + 41) = a_aimBest) (out : Int32 × Int32 × (Nat → Int32) × (Nat → Int32) × (Nat → Int32) × (Nat → Int32) × (Nat → Int32) × (Nat → Int32) × (Nat → Int32)) (hf : fb14_tryAims q_X14_tryAims p1 p2 i_lost i_aimLeast i_aimMany a_now a_fuel a_burn a_wet a_heat a_stood a_aimRow a_aimBest = some out), GMet l yX14_tryAims cX14_tryAims 6 none ((d + 1) + 4) ((d + 1) * 25 + 95) G [.ref o, .int p1, .int p2] K I J X A B Q none K (ov I [(1170, o, out.1), (1181, o, out.2.1)]) J X (ova A [((o + 2), a_now), ((o + 32), out.2.2.1), ((o + 33), out.2.2.2.1), ((o + 34), out.2.2.2.2.1), ((o + 35), out.2.2.2.2.2.1), ((o + 39), out.2.2.2.2.2.2.1), ((o + 40), out.2.2.2.2.2.2.2.1), ((o + 41), out.2.2.2.2.2.2.2.2)]) B Q 0 0 := by
  intro G K I J X A B Q o shM p1 p2 i_lost i_aimLeast i_aimMany a_now a_fuel a_burn a_wet a_heat a_stood a_aimRow a_aimBest e_i_lost e_i_aimLeast e_i_aimMany e_a_now e_a_fuel e_a_burn e_a_wet e_a_heat e_a_stood e_a_aimRow e_a_aimBest out hf
  refine GMet.of (y := yX14_tryAims) rfl (Nat.le_of_ble_eq_true rfl) rfl ?_
  intro p e s m below meth c ls hx hb hr hml hlocks hts hown hname hG hR hl
  have hown : s.vm.findClass RX14 = some m.cls := hown
  have k_a_now : K (o + 2) = some (.inr (0, 800)) := (shM.2 1 _ rfl).1
  have k_a_fuel : K (o + 32) = some (.inr (0, 64)) := (shM.2 31 _ rfl).1
  have k_a_burn : K (o + 33) = some (.inr (0, 64)) := (shM.2 32 _ rfl).1
  have k_a_wet : K (o + 34) = some (.inr (0, 64)) := (shM.2 33 _ rfl).1
  have k_a_heat : K (o + 35) = some (.inr (0, 64)) := (shM.2 34 _ rfl).1
  have k_a_stood : K (o + 39) = some (.inr (0, 576)) := (shM.2 38 _ rfl).1
  have k_a_aimRow : K (o + 40) = some (.inr (0, 3)) := (shM.2 39 _ rfl).1
  have k_a_aimBest : K (o + 41) = some (.inr (0, 3)) := (shM.2 40 _ rfl).1
  have hN_A : nda [(o + 2), (o + 32), (o + 33), (o + 34), (o + 35), (o + 39), (o + 40), (o + 41)] := nd_off o [2, 32, 33, 34, 35, 39, 40, 41] rfl
  have hR : RS G K (ov I [(1170, o, i_lost), (1181, o, i_aimLeast)]) J X (ova A [((o + 2), a_now), ((o + 32), a_fuel), ((o + 33), a_burn), ((o + 34), a_wet), ((o + 35), a_heat), ((o + 39), a_stood), ((o + 40), a_aimRow), ((o + 41), a_aimBest)]) B Q s.heap := hR.to (Eq.symm (ov_sc e_i_lost (ov_sc e_i_aimLeast rfl))) rfl rfl (Eq.symm (ova_sc e_a_now (ova_sc e_a_fuel (ova_sc e_a_burn (ova_sc e_a_wet (ova_sc e_a_heat (ova_sc e_a_stood (ova_sc e_a_aimRow (ova_sc e_a_aimBest rfl))))))))) rfl rfl
  have hS : va_S (gA G) s.heap s.heap [] := va_S.rf
  have hend : ∀ (pc : Nat) (H : Heap) (locs : List Loc) (ls : Array Slot), decode cX14_tryAims pc = .ok (.return_, 1) → RS G K (ov I [(1170, o, out.1), (1181, o, out.2.1)]) J X (ova A [((o + 2), a_now), ((o + 32), out.2.2.1), ((o + 33), out.2.2.2.1), ((o + 34), out.2.2.2.2.1), ((o + 35), out.2.2.2.2.2.1), ((o + 39), out.2.2.2.2.2.2.1), ((o + 40), out.2.2.2.2.2.2.2.1), ((o + 41), out.2.2.2.2.2.2.2.2)]) B Q H → va_S (gA G) s.heap H locs → W p l e ({ frames := (d + 1) + 4, cells := 0, slots := 0, locals := (d + 1) * 25 + 95 } : Room) s m ([.ref o, .int p1, .int p2] : List Value).toArray below meth c H locs 0 0 (MQ below (gQ G none K (ov I [(1170, o, out.1), (1181, o, out.2.1)]) J X (ova A [((o + 2), a_now), ((o + 32), out.2.2.1), ((o + 33), out.2.2.2.1), ((o + 34), out.2.2.2.2.1), ((o + 35), out.2.2.2.2.2.1), ((o + 39), out.2.2.2.2.2.2.1), ((o + 40), out.2.2.2.2.2.2.2.1), ((o + 41), out.2.2.2.2.2.2.2.2)]) B Q) ([.ref o, .int p1, .int p2] : List Value).toArray s 0 0 (gA G)) (F0 m pc ls []) := fun pc H locs ls hd hR hS => g_vret hx hb hr hlocks hG hR hS rfl hd
  generalize MQ below (gQ G none K (ov I [(1170, o, out.1), (1181, o, out.2.1)]) J X (ova A [((o + 2), a_now), ((o + 32), out.2.2.1), ((o + 33), out.2.2.2.1), ((o + 34), out.2.2.2.2.1), ((o + 35), out.2.2.2.2.2.1), ((o + 39), out.2.2.2.2.2.2.1), ((o + 40), out.2.2.2.2.2.2.2.1), ((o + 41), out.2.2.2.2.2.2.2.2)]) B Q) ([.ref o, .int p1, .int p2] : List Value).toArray s 0 0 (gA G) = Z at hend ⊢
  generalize ([.ref o, .int p1, .int p2] : List Value).toArray = args at hts hend ⊢
  unfold fb14_tryAims at hf
  refine lv_iload_n hx hb dX14_tryAims_0 rfl (lv_at hl 1 rfl) ?_
  refine lv_aload_n hx hb dX14_tryAims_1 rfl (lv_at hl 0 rfl) ?_
  refine n_geti (v := i_aimMany) hx hb hts hown hG hR gFi_X14_467_11 shM.1 ((congrFun (ov_no rfl) _).trans e_i_aimMany) dX14_tryAims_2 ?_
  refine lv_icmp_ne (tgt := 82) hx hb dX14_tryAims_5 (by decide) (fun c1 => ?_) (fun c1 => ?_)
  · have hf := ite_f c1 hf
    refine lv_aload_n hx hb dX14_tryAims_82 rfl (lv_at hl 0 rfl) ?_
    refine lv_iload_n hx hb dX14_tryAims_83 rfl (lv_at hl 1 rfl) ?_
    obtain ⟨rr2, hrr2, hf⟩ := bind_s hf
    refine g0_cVv (rm := (1, 20)) (As := [.int p1]) (rest := []) ⟨hx, hb, hml, hown, hts⟩ hG hR hS (m14_keepFire l G K (ov I [(1170, o, i_lost), (1181, o, i_aimLeast)]) J X (ova A [((o + 2), a_now), ((o + 32), a_fuel), ((o + 33), a_burn), ((o + 34), a_wet), ((o + 35), a_heat), ((o + 39), a_stood), ((o + 40), a_aimRow), ((o + 41), a_aimBest)]) B Q o shM p1 a_now a_fuel a_burn a_wet a_stood (ova_get 0 hN_A rfl) (ova_get 1 hN_A rfl) (ova_get 2 hN_A rfl) (ova_get 3 hN_A rfl) (ova_get 5 hN_A rfl) rr2 hrr2) (cwV 1 hts gi_X14_473 rfl rfl rfl hd_X14_keepFire ⟨by dsimp only; omega, by dsimp only; omega⟩) shM.1 rfl rfl hl.1 (Nat.le_of_ble_eq_true rfl) dX14_tryAims_84 ⟨Nat.le_refl _, Nat.le_refl _⟩ rfl (fun H locs hR hS => ?_)
    have hR : RS G K (ov I [(1170, o, i_lost), (1181, o, i_aimLeast)]) J X (ova A [((o + 2), a_now), ((o + 32), a_fuel), ((o + 33), a_burn), ((o + 34), a_wet), ((o + 35), a_heat), ((o + 39), rr2), ((o + 40), a_aimRow), ((o + 41), a_aimBest)]) B Q H := hR.to rfl rfl rfl (ova_merge (l := [((o + 2), a_now), ((o + 32), a_fuel), ((o + 33), a_burn), ((o + 34), a_wet), ((o + 35), a_heat), ((o + 39), a_stood), ((o + 40), a_aimRow), ((o + 41), a_aimBest)]) hN_A [0, 1, 2, 3, 5] [((o + 2), a_now), ((o + 32), a_fuel), ((o + 33), a_burn), ((o + 34), a_wet), ((o + 39), rr2)] rfl rfl) rfl rfl
    refine lv_aload_n hx hb dX14_tryAims_87 rfl (lv_at hl 0 rfl) ?_
    refine n_geti (v := i_lost) hx hb hts hown hG hR gFi_X14_423_11 shM.1 (ov_get 0 rfl rfl) dX14_tryAims_88 ?_
    refine lv_istore_n (lv' := [(3, .int i_lost), (0, .ref o), (1, .int p1), (2, .int p2)]) hx hb dX14_tryAims_91 rfl hl (by decide) rfl (fun ls hl => ?_)
    refine lv_iconst (v := 0) hx hb dX14_tryAims_92 li_0 ?_
    refine lv_istore (lv' := [(4, .int (0 : Int32)), (3, .int i_lost), (0, .ref o), (1, .int p1), (2, .int p2)]) hx hb dX14_tryAims_93 hl (by decide) rfl (fun ls hl => ?_)
    refine lv_iconst (v := 0) hx hb dX14_tryAims_95 li_0 ?_
    refine lv_istore (lv' := [(5, .int (0 : Int32)), (4, .int (0 : Int32)), (3, .int i_lost), (0, .ref o), (1, .int p1), (2, .int p2)]) hx hb dX14_tryAims_96 hl (by decide) rfl (fun ls hl => ?_)
    obtain ⟨rl3, hw3, hfo3⟩ := bind_s hf
    have hx3_0 : ∀ (x3_0 : Int32 × Int32 × (Nat → Int32) × (Nat → Int32) × (Nat → Int32) × (Nat → Int32) × (Nat → Int32) × (Nat → Int32) × (Nat → Int32)), f14_tryAims_e3_0 q_X14_tryAims p1 p2 i_lost i_aimMany a_now x3_0 = some out → ∀ (H : Heap) (locs : List Loc) (ls : Array Slot), RS G K (ov I [(1170, o, x3_0.1), (1181, o, x3_0.2.1)]) J X (ova A [((o + 2), a_now), ((o + 32), x3_0.2.2.1), ((o + 33), x3_0.2.2.2.1), ((o + 34), x3_0.2.2.2.2.1), ((o + 35), x3_0.2.2.2.2.2.1), ((o + 39), x3_0.2.2.2.2.2.2.1), ((o + 40), x3_0.2.2.2.2.2.2.2.1), ((o + 41), x3_0.2.2.2.2.2.2.2.2)]) B Q H → va_S (gA G) s.heap H locs → lv_has ls 6 [(0, .ref o), (1, .int p1), (2, .int p2), (3, .int i_lost)] → W p l e ({ frames := (d + 1) + 4, cells := 0, slots := 0, locals := (d + 1) * 25 + 95 } : Room) s m args below meth c H locs 0 0 Z (F0 m 198 ls []) := by
      intro x3_0 hf H locs ls hR hS hl
      unfold f14_tryAims_e3_0 at hf
      refine lv_aload_n hx hb dX14_tryAims_198 rfl (lv_at hl 0 rfl) ?_
      refine g_getr (b := (o + 40)) hx hb hts hown hG hR gFx_X14_133_11 shM.1 ((shM.2 39 _ rfl).2) dX14_tryAims_199 ?_
      refine lv_iload_n hx hb dX14_tryAims_202 rfl (lv_at hl 1 rfl) ?_
      refine lv_iconst (v := 0) hx hb dX14_tryAims_203 li_0 ?_
      obtain ⟨c4, hf⟩ := gd_some hf
      obtain ⟨u5, eu5, hf⟩ := lt_some hf
      refine n_iast (la' := [((o + 2), a_now), ((o + 32), x3_0.2.2.1), ((o + 33), x3_0.2.2.2.1), ((o + 34), x3_0.2.2.2.2.1), ((o + 35), x3_0.2.2.2.2.2.1), ((o + 39), x3_0.2.2.2.2.2.2.1), ((o + 40), u5), ((o + 41), x3_0.2.2.2.2.2.2.2.2)]) hx hb hG hR hS k_a_aimRow c4 hN_A 6 rfl eu5 rfl dX14_tryAims_204 (fun H locs hR hS => ?_)
      refine lv_aload_n hx hb dX14_tryAims_205 rfl (lv_at hl 0 rfl) ?_
      refine lv_iconst (v := -1) hx hb dX14_tryAims_206 li_m1 ?_
      refine lv_iconst (v := 0) hx hb dX14_tryAims_207 li_0 ?_
      obtain ⟨rr6, hrr6, hf⟩ := bind_s hf
      refine g0_cVv (rm := (3, 72)) (As := [.int (-1 : Int32), .int (0 : Int32)]) (rest := []) ⟨hx, hb, hml, hown, hts⟩ hG hR hS (m14_minute l G K (ov I [(1170, o, x3_0.1), (1181, o, x3_0.2.1)]) J X (ova A [((o + 2), a_now), ((o + 32), x3_0.2.2.1), ((o + 33), x3_0.2.2.2.1), ((o + 34), x3_0.2.2.2.2.1), ((o + 35), x3_0.2.2.2.2.2.1), ((o + 39), x3_0.2.2.2.2.2.2.1), ((o + 40), u5), ((o + 41), x3_0.2.2.2.2.2.2.2.2)]) B Q o shM (-1 : Int32) (0 : Int32) x3_0.1 a_now x3_0.2.2.1 x3_0.2.2.2.1 x3_0.2.2.2.2.1 x3_0.2.2.2.2.2.1 (ov_get 0 rfl rfl) (ova_get 0 hN_A rfl) (ova_get 1 hN_A rfl) (ova_get 2 hN_A rfl) (ova_get 3 hN_A rfl) (ova_get 4 hN_A rfl) rr6 hrr6) (cwV 2 hts gi_X14_445 rfl rfl rfl hd_X14_minute ⟨by dsimp only; omega, by dsimp only; omega⟩) shM.1 rfl rfl hl.1 (Nat.le_of_ble_eq_true rfl) dX14_tryAims_208 ⟨Nat.le_refl _, Nat.le_refl _⟩ rfl (fun H locs hR hS => ?_)
      have hR : RS G K (ov I [(1170, o, rr6.1), (1181, o, x3_0.2.1)]) J X (ova A [((o + 2), a_now), ((o + 32), rr6.2.1), ((o + 33), rr6.2.2.1), ((o + 34), rr6.2.2.2.1), ((o + 35), rr6.2.2.2.2), ((o + 39), x3_0.2.2.2.2.2.2.1), ((o + 40), u5), ((o + 41), x3_0.2.2.2.2.2.2.2.2)]) B Q H := hR.to (ov_merge (l := [(1170, o, x3_0.1), (1181, o, x3_0.2.1)]) rfl [0] [(1170, o, rr6.1)] rfl rfl) rfl rfl (ova_merge (l := [((o + 2), a_now), ((o + 32), x3_0.2.2.1), ((o + 33), x3_0.2.2.2.1), ((o + 34), x3_0.2.2.2.2.1), ((o + 35), x3_0.2.2.2.2.2.1), ((o + 39), x3_0.2.2.2.2.2.2.1), ((o + 40), u5), ((o + 41), x3_0.2.2.2.2.2.2.2.2)]) hN_A [0, 1, 2, 3, 4] [((o + 2), a_now), ((o + 32), rr6.2.1), ((o + 33), rr6.2.2.1), ((o + 34), rr6.2.2.2.1), ((o + 35), rr6.2.2.2.2)] rfl rfl) rfl rfl
      refine lv_aload_n hx hb dX14_tryAims_211 rfl (lv_at hl 0 rfl) ?_
      refine lv_iload_n hx hb dX14_tryAims_212 rfl (lv_at hl 1 rfl) ?_
      refine lv_iconst (v := 1) hx hb dX14_tryAims_213 li_1 ?_
      obtain ⟨v7, ev7, hf⟩ := lt_some hf
      refine n_iadd hx hb ev7 dX14_tryAims_214 ?_
      refine lv_iload_n hx hb dX14_tryAims_215 rfl (lv_at hl 2 rfl) ?_
      obtain ⟨rr8, hrr8, hf⟩ := bind_s hf
      refine g0_cVv (rm := (d + 4, d * 25 + 95)) (As := [.int v7, .int p2]) (rest := []) ⟨hx, hb, hml, hown, hts⟩ hG hR hS (ih_X14_tryAims G K (ov I [(1170, o, rr6.1), (1181, o, x3_0.2.1)]) J X (ova A [((o + 2), a_now), ((o + 32), rr6.2.1), ((o + 33), rr6.2.2.1), ((o + 34), rr6.2.2.2.1), ((o + 35), rr6.2.2.2.2), ((o + 39), x3_0.2.2.2.2.2.2.1), ((o + 40), u5), ((o + 41), x3_0.2.2.2.2.2.2.2.2)]) B Q o shM v7 p2 rr6.1 x3_0.2.1 i_aimMany a_now rr6.2.1 rr6.2.2.1 rr6.2.2.2.1 rr6.2.2.2.2 x3_0.2.2.2.2.2.2.1 u5 x3_0.2.2.2.2.2.2.2.2 (ov_get 0 rfl rfl) (ov_get 1 rfl rfl) ((congrFun (ov_no rfl) _).trans e_i_aimMany) (ova_get 0 hN_A rfl) (ova_get 1 hN_A rfl) (ova_get 2 hN_A rfl) (ova_get 3 hN_A rfl) (ova_get 4 hN_A rfl) (ova_get 5 hN_A rfl) (ova_get 6 hN_A rfl) (ova_get 7 hN_A rfl) rr8 hrr8) (cwV 2 hts gi_X14_476 rfl rfl rfl hd_X14_tryAims ⟨by dsimp only; omega, by dsimp only; omega⟩) shM.1 rfl rfl hl.1 (Nat.le_of_ble_eq_true rfl) dX14_tryAims_216 ⟨Nat.le_refl _, Nat.le_refl _⟩ rfl (fun H locs hR hS => ?_)
      have hR : RS G K (ov I [(1170, o, rr8.1), (1181, o, rr8.2.1)]) J X (ova A [((o + 2), a_now), ((o + 32), rr8.2.2.1), ((o + 33), rr8.2.2.2.1), ((o + 34), rr8.2.2.2.2.1), ((o + 35), rr8.2.2.2.2.2.1), ((o + 39), rr8.2.2.2.2.2.2.1), ((o + 40), rr8.2.2.2.2.2.2.2.1), ((o + 41), rr8.2.2.2.2.2.2.2.2)]) B Q H := hR.to (ov_merge (l := [(1170, o, rr6.1), (1181, o, x3_0.2.1)]) rfl [0, 1] [(1170, o, rr8.1), (1181, o, rr8.2.1)] rfl rfl) rfl rfl (ova_merge (l := [((o + 2), a_now), ((o + 32), rr6.2.1), ((o + 33), rr6.2.2.1), ((o + 34), rr6.2.2.2.1), ((o + 35), rr6.2.2.2.2), ((o + 39), x3_0.2.2.2.2.2.2.1), ((o + 40), u5), ((o + 41), x3_0.2.2.2.2.2.2.2.2)]) hN_A [0, 1, 2, 3, 4, 5, 6, 7] [((o + 2), a_now), ((o + 32), rr8.2.2.1), ((o + 33), rr8.2.2.2.1), ((o + 34), rr8.2.2.2.2.1), ((o + 35), rr8.2.2.2.2.2.1), ((o + 39), rr8.2.2.2.2.2.2.1), ((o + 40), rr8.2.2.2.2.2.2.2.1), ((o + 41), rr8.2.2.2.2.2.2.2.2)] rfl rfl) rfl rfl
      refine lv_aload_n hx hb dX14_tryAims_219 rfl (lv_at hl 0 rfl) ?_
      refine lv_iload_n hx hb dX14_tryAims_220 rfl (lv_at hl 1 rfl) ?_
      obtain ⟨rr9, hrr9, hf⟩ := bind_s hf
      refine g0_cVv (rm := (1, 20)) (As := [.int p1]) (rest := []) ⟨hx, hb, hml, hown, hts⟩ hG hR hS (m14_bringFire l G K (ov I [(1170, o, rr8.1), (1181, o, rr8.2.1)]) J X (ova A [((o + 2), a_now), ((o + 32), rr8.2.2.1), ((o + 33), rr8.2.2.2.1), ((o + 34), rr8.2.2.2.2.1), ((o + 35), rr8.2.2.2.2.2.1), ((o + 39), rr8.2.2.2.2.2.2.1), ((o + 40), rr8.2.2.2.2.2.2.2.1), ((o + 41), rr8.2.2.2.2.2.2.2.2)]) B Q o shM p1 a_now rr8.2.2.1 rr8.2.2.2.1 rr8.2.2.2.2.1 rr8.2.2.2.2.2.2.1 (ova_get 0 hN_A rfl) (ova_get 1 hN_A rfl) (ova_get 2 hN_A rfl) (ova_get 3 hN_A rfl) (ova_get 5 hN_A rfl) rr9 hrr9) (cwV 1 hts gi_X14_479 rfl rfl rfl hd_X14_bringFire ⟨by dsimp only; omega, by dsimp only; omega⟩) shM.1 rfl rfl hl.1 (Nat.le_of_ble_eq_true rfl) dX14_tryAims_221 ⟨Nat.le_refl _, Nat.le_refl _⟩ rfl (fun H locs hR hS => ?_)
      have hR : RS G K (ov I [(1170, o, rr8.1), (1181, o, rr8.2.1)]) J X (ova A [((o + 2), a_now), ((o + 32), rr9.1), ((o + 33), rr9.2.1), ((o + 34), rr9.2.2), ((o + 35), rr8.2.2.2.2.2.1), ((o + 39), rr8.2.2.2.2.2.2.1), ((o + 40), rr8.2.2.2.2.2.2.2.1), ((o + 41), rr8.2.2.2.2.2.2.2.2)]) B Q H := hR.to rfl rfl rfl (ova_merge (l := [((o + 2), a_now), ((o + 32), rr8.2.2.1), ((o + 33), rr8.2.2.2.1), ((o + 34), rr8.2.2.2.2.1), ((o + 35), rr8.2.2.2.2.2.1), ((o + 39), rr8.2.2.2.2.2.2.1), ((o + 40), rr8.2.2.2.2.2.2.2.1), ((o + 41), rr8.2.2.2.2.2.2.2.2)]) hN_A [0, 1, 2, 3, 5] [((o + 2), a_now), ((o + 32), rr9.1), ((o + 33), rr9.2.1), ((o + 34), rr9.2.2), ((o + 39), rr8.2.2.2.2.2.2.1)] rfl rfl) rfl rfl
      refine lv_aload_n hx hb dX14_tryAims_224 rfl (lv_at hl 0 rfl) ?_
      refine lv_iload_n hx hb dX14_tryAims_225 rfl (lv_at hl 3 rfl) ?_
      refine n_puti (li' := [(1170, o, i_lost), (1181, o, rr8.2.1)]) hx hb hts hown hG hR hS gPi_X14_423_11 shM.1 0 rfl rfl rfl dX14_tryAims_226 (fun H locs hR hS => ?_)
      obtain rfl := some_i hf
      exact hend _ _ _ _ dX14_tryAims_229 hR hS
    refine whl_walk (P := fun (s3 : Int32 × Int32 × Int32 × Int32 × (Nat → Int32) × (Nat → Int32) × (Nat → Int32) × (Nat → Int32) × (Nat → Int32) × (Nat → Int32) × (Nat → Int32)) => ∀ (H : Heap) (locs : List Loc) (ls : Array Slot), RS G K (ov I [(1170, o, s3.2.2.1), (1181, o, s3.2.2.2.1)]) J X (ova A [((o + 2), a_now), ((o + 32), s3.2.2.2.2.1), ((o + 33), s3.2.2.2.2.2.1), ((o + 34), s3.2.2.2.2.2.2.1), ((o + 35), s3.2.2.2.2.2.2.2.1), ((o + 39), s3.2.2.2.2.2.2.2.2.1), ((o + 40), s3.2.2.2.2.2.2.2.2.2.1), ((o + 41), s3.2.2.2.2.2.2.2.2.2.2)]) B Q H → va_S (gA G) s.heap H locs → lv_has ls 6 [(0, .ref o), (1, .int p1), (2, .int p2), (3, .int i_lost), (4, .int s3.1), (5, .int s3.2.1)] → W p l e ({ frames := (d + 1) + 4, cells := 0, slots := 0, locals := (d + 1) * 25 + 95 } : Room) s m args below meth c H locs 0 0 Z (F0 m 98 ls [])) (r := rl3) ?_ FU _ hw3 _ _ _ hR hS (lv_sub hl [3, 4, 5, 2, 1, 0] rfl)
    clear hR hS hl hf
    intro s3 o3 hf hk3 H locs ls hR hS hl
    obtain ⟨w3_4, w3_5, w3_i_lost, w3_i_aimLeast, w3_a_fuel, w3_a_burn, w3_a_wet, w3_a_heat, w3_a_stood, w3_a_aimRow, w3_a_aimBest⟩ := s3
    have hf : f14_tryAims_s3 q_X14_tryAims p1 p2 i_lost i_aimMany a_now w3_4 w3_5 w3_i_lost w3_i_aimLeast w3_a_fuel w3_a_burn w3_a_wet w3_a_heat w3_a_stood w3_a_aimRow w3_a_aimBest = some o3 := hf
    have hR : RS G K (ov I [(1170, o, w3_i_lost), (1181, o, w3_i_aimLeast)]) J X (ova A [((o + 2), a_now), ((o + 32), w3_a_fuel), ((o + 33), w3_a_burn), ((o + 34), w3_a_wet), ((o + 35), w3_a_heat), ((o + 39), w3_a_stood), ((o + 40), w3_a_aimRow), ((o + 41), w3_a_aimBest)]) B Q H := hR
    have hl : lv_has ls 6 [(0, .ref o), (1, .int p1), (2, .int p2), (3, .int i_lost), (4, .int w3_4), (5, .int w3_5)] := hl
    unfold f14_tryAims_s3 at hf
    refine lv_iload hx hb dX14_tryAims_98 (lv_at hl 5 rfl) ?_
    refine lv_aload_n hx hb dX14_tryAims_100 rfl (lv_at hl 0 rfl) ?_
    obtain ⟨rr10, hrr10, hf⟩ := bind_s hf
    refine g0_cV (rm := (0, 0)) (As := []) (rest := [.int w3_5]) ⟨hx, hb, hml, hown, hts⟩ hG hR hS (m14_cells l G K (ov I [(1170, o, w3_i_lost), (1181, o, w3_i_aimLeast)]) J X (ova A [((o + 2), a_now), ((o + 32), w3_a_fuel), ((o + 33), w3_a_burn), ((o + 34), w3_a_wet), ((o + 35), w3_a_heat), ((o + 39), w3_a_stood), ((o + 40), w3_a_aimRow), ((o + 41), w3_a_aimBest)]) B Q o shM a_now (ova_get 0 hN_A rfl) rr10 hrr10) (cwV 0 hts gi_X14_426 rfl rfl rfl hd_X14_cells ⟨by dsimp only; omega, by dsimp only; omega⟩) shM.1 rfl rfl hl.1 (Nat.le_of_ble_eq_true rfl) dX14_tryAims_101 ⟨Nat.le_refl _, Nat.le_refl _⟩ rfl (fun H locs hR hS => ?_)
    refine lv_icmp_ge (tgt := 198) hx hb dX14_tryAims_104 (by decide) (fun c11 => ?_) (fun c11 => ?_)
    · have hf := ite_t c11 hf
      obtain rfl := some_i hf
      replace hk3 : _ = rl3 := hk3
      subst hk3
      exact hx3_0 (w3_i_lost, w3_i_aimLeast, w3_a_fuel, w3_a_burn, w3_a_wet, w3_a_heat, w3_a_stood, w3_a_aimRow, w3_a_aimBest) hfo3 _ _ _ hR hS (lv_sub hl [0, 1, 2, 3] rfl)
    · have hf := ite_f c11 hf
      refine lv_iload hx hb dX14_tryAims_107 (lv_at hl 4 rfl) ?_
      refine lv_bipush (v := 8) hx hb dX14_tryAims_109 lb_8 ?_
      refine lv_icmp_ge (tgt := 198) hx hb dX14_tryAims_111 (by decide) (fun c12 => ?_) (fun c12 => ?_)
      · have hf := ite_t c12 hf
        obtain rfl := some_i hf
        replace hk3 : _ = rl3 := hk3
        subst hk3
        exact hx3_0 (w3_i_lost, w3_i_aimLeast, w3_a_fuel, w3_a_burn, w3_a_wet, w3_a_heat, w3_a_stood, w3_a_aimRow, w3_a_aimBest) hfo3 _ _ _ hR hS (lv_sub hl [0, 1, 2, 3] rfl)
      · have hf := ite_f c12 hf
        refine lv_aload_n hx hb dX14_tryAims_114 rfl (lv_at hl 0 rfl) ?_
        refine g_getr (b := (o + 39)) hx hb hts hown hG hR gFx_X14_130_11 shM.1 ((shM.2 38 _ rfl).2) dX14_tryAims_115 ?_
        refine lv_sipush (v := 192) hx hb dX14_tryAims_118 ls_192 ?_
        refine lv_iload_n hx hb dX14_tryAims_121 rfl (lv_at hl 1 rfl) ?_
        obtain ⟨v13, ev13, hf⟩ := lt_some hf
        refine n_imul hx hb ev13 dX14_tryAims_122 ?_
        refine lv_iconst (v := 3) hx hb dX14_tryAims_123 li_3 ?_
        refine lv_iload hx hb dX14_tryAims_124 (lv_at hl 5 rfl) ?_
        obtain ⟨v14, ev14, hf⟩ := lt_some hf
        refine n_imul hx hb ev14 dX14_tryAims_126 ?_
        obtain ⟨v15, ev15, hf⟩ := lt_some hf
        refine n_iadd hx hb ev15 dX14_tryAims_127 ?_
        refine lv_iconst (v := 1) hx hb dX14_tryAims_128 li_1 ?_
        obtain ⟨v16, ev16, hf⟩ := lt_some hf
        refine n_iadd hx hb ev16 dX14_tryAims_129 ?_
        obtain ⟨c17, hf⟩ := gd_some hf
        obtain ⟨v18, ev18, hf⟩ := lt_some hf
        refine n_iald (x := w3_a_stood) hx hb hG hR k_a_stood c17 (ova_get 5 hN_A rfl) ev18 dX14_tryAims_130 ?_
        have hj192 : ∀ (j192_4 : Int32) (j192_i_lost : Int32) (j192_i_aimLeast : Int32) (j192_a_fuel : Nat → Int32) (j192_a_burn : Nat → Int32) (j192_a_wet : Nat → Int32) (j192_a_heat : Nat → Int32) (j192_a_stood : Nat → Int32) (j192_a_aimRow : Nat → Int32) (j192_a_aimBest : Nat → Int32), f14_tryAims_j192 w3_5 j192_4 j192_i_lost j192_i_aimLeast j192_a_fuel j192_a_burn j192_a_wet j192_a_heat j192_a_stood j192_a_aimRow j192_a_aimBest = some o3 → ∀ (H : Heap) (locs : List Loc) (ls : Array Slot), RS G K (ov I [(1170, o, j192_i_lost), (1181, o, j192_i_aimLeast)]) J X (ova A [((o + 2), a_now), ((o + 32), j192_a_fuel), ((o + 33), j192_a_burn), ((o + 34), j192_a_wet), ((o + 35), j192_a_heat), ((o + 39), j192_a_stood), ((o + 40), j192_a_aimRow), ((o + 41), j192_a_aimBest)]) B Q H → va_S (gA G) s.heap H locs → lv_has ls 6 [(0, .ref o), (1, .int p1), (2, .int p2), (3, .int i_lost), (4, .int j192_4), (5, .int w3_5)] → W p l e ({ frames := (d + 1) + 4, cells := 0, slots := 0, locals := (d + 1) * 25 + 95 } : Room) s m args below meth c H locs 0 0 Z (F0 m 192 ls []) := by
          intro j192_4 j192_i_lost j192_i_aimLeast j192_a_fuel j192_a_burn j192_a_wet j192_a_heat j192_a_stood j192_a_aimRow j192_a_aimBest hf H locs ls hR hS hl
          unfold f14_tryAims_j192 at hf
          obtain ⟨v19, ev19, hf⟩ := lt_some hf
          refine lv_iinc (k := 5) (v := v19) (lv' := [(5, .int v19), (0, .ref o), (1, .int p1), (2, .int p2), (3, .int i_lost), (4, .int j192_4)]) hx hb dX14_tryAims_192 hl rfl (by rw [ev19]; rfl) (by decide) rfl (fun ls hl => ?_)
          refine lv_goto (tgt := 98) hx hb dX14_tryAims_195 (by decide) ?_
          obtain rfl := some_i hf
          exact hk3 _ _ _ hR hS (lv_sub hl [1, 2, 3, 4, 5, 0] rfl)
        refine lv_if_ne (tgt := 137) hx hb dX14_tryAims_131 (by decide) (fun c20 => ?_) (fun c20 => ?_)
        · have hf := ite_f c20 hf
          obtain ⟨v21, ev21, hf⟩ := lt_some hf
          refine lv_iinc (k := 4) (v := v21) (lv' := [(4, .int v21), (0, .ref o), (1, .int p1), (2, .int p2), (3, .int i_lost), (5, .int w3_5)]) hx hb dX14_tryAims_137 hl rfl (by rw [ev21]; rfl) (by decide) rfl (fun ls hl => ?_)
          refine lv_aload_n hx hb dX14_tryAims_140 rfl (lv_at hl 1 rfl) ?_
          refine g_getr (b := (o + 40)) hx hb hts hown hG hR gFx_X14_133_11 shM.1 ((shM.2 39 _ rfl).2) dX14_tryAims_141 ?_
          refine lv_iload_n hx hb dX14_tryAims_144 rfl (lv_at hl 2 rfl) ?_
          refine lv_bipush (v := 100) hx hb dX14_tryAims_145 lb_100 ?_
          refine lv_bipush (v := 10) hx hb dX14_tryAims_147 lb_10 ?_
          refine lv_iload hx hb dX14_tryAims_149 (lv_at hl 5 rfl) ?_
          refine lv_aload_n hx hb dX14_tryAims_151 rfl (lv_at hl 1 rfl) ?_
          obtain ⟨rr22, hrr22, hf⟩ := bind_s hf
          refine g0_cV (rm := (0, 0)) (As := []) (rest := [.int w3_5, .int (10 : Int32), .int (100 : Int32), .int p1, .ref (o + 40)]) ⟨hx, hb, hml, hown, hts⟩ hG hR hS (m14_columns l G K (ov I [(1170, o, w3_i_lost), (1181, o, w3_i_aimLeast)]) J X (ova A [((o + 2), a_now), ((o + 32), w3_a_fuel), ((o + 33), w3_a_burn), ((o + 34), w3_a_wet), ((o + 35), w3_a_heat), ((o + 39), w3_a_stood), ((o + 40), w3_a_aimRow), ((o + 41), w3_a_aimBest)]) B Q o shM a_now (ova_get 0 hN_A rfl) rr22 hrr22) (cwV 0 hts gi_X14_298 rfl rfl rfl hd_X14_columns ⟨by dsimp only; omega, by dsimp only; omega⟩) shM.1 rfl rfl hl.1 (Nat.le_of_ble_eq_true rfl) dX14_tryAims_152 ⟨Nat.le_refl _, Nat.le_refl _⟩ rfl (fun H locs hR hS => ?_)
          obtain ⟨c24, hf⟩ := gd_some hf
          obtain ⟨v23, ev23, hf⟩ := lt_some hf
          refine n_idiv hx hb c24 ev23 dX14_tryAims_155 ?_
          obtain ⟨v25, ev25, hf⟩ := lt_some hf
          refine n_imul hx hb ev25 dX14_tryAims_156 ?_
          obtain ⟨v26, ev26, hf⟩ := lt_some hf
          refine n_iadd hx hb ev26 dX14_tryAims_157 ?_
          refine lv_iload hx hb dX14_tryAims_158 (lv_at hl 5 rfl) ?_
          refine lv_aload_n hx hb dX14_tryAims_160 rfl (lv_at hl 1 rfl) ?_
          obtain ⟨rr27, hrr27, hf⟩ := bind_s hf
          refine g0_cV (rm := (0, 0)) (As := []) (rest := [.int w3_5, .int v26, .int p1, .ref (o + 40)]) ⟨hx, hb, hml, hown, hts⟩ hG hR hS (m14_columns l G K (ov I [(1170, o, w3_i_lost), (1181, o, w3_i_aimLeast)]) J X (ova A [((o + 2), a_now), ((o + 32), w3_a_fuel), ((o + 33), w3_a_burn), ((o + 34), w3_a_wet), ((o + 35), w3_a_heat), ((o + 39), w3_a_stood), ((o + 40), w3_a_aimRow), ((o + 41), w3_a_aimBest)]) B Q o shM a_now (ova_get 0 hN_A rfl) rr27 hrr27) (cwV 0 hts gi_X14_298 rfl rfl rfl hd_X14_columns ⟨by dsimp only; omega, by dsimp only; omega⟩) shM.1 rfl rfl hl.1 (Nat.le_of_ble_eq_true rfl) dX14_tryAims_161 ⟨Nat.le_refl _, Nat.le_refl _⟩ rfl (fun H locs hR hS => ?_)
          obtain ⟨c29, hf⟩ := gd_some hf
          obtain ⟨v28, ev28, hf⟩ := lt_some hf
          refine n_irem hx hb c29 ev28 dX14_tryAims_164 ?_
          obtain ⟨v30, ev30, hf⟩ := lt_some hf
          refine n_iadd hx hb ev30 dX14_tryAims_165 ?_
          obtain ⟨c31, hf⟩ := gd_some hf
          obtain ⟨u32, eu32, hf⟩ := lt_some hf
          refine n_iast (la' := [((o + 2), a_now), ((o + 32), w3_a_fuel), ((o + 33), w3_a_burn), ((o + 34), w3_a_wet), ((o + 35), w3_a_heat), ((o + 39), w3_a_stood), ((o + 40), u32), ((o + 41), w3_a_aimBest)]) hx hb hG hR hS k_a_aimRow c31 hN_A 6 rfl eu32 rfl dX14_tryAims_166 (fun H locs hR hS => ?_)
          refine lv_aload_n hx hb dX14_tryAims_167 rfl (lv_at hl 1 rfl) ?_
          refine lv_iload hx hb dX14_tryAims_168 (lv_at hl 5 rfl) ?_
          refine lv_iload_n hx hb dX14_tryAims_170 rfl (lv_at hl 3 rfl) ?_
          obtain ⟨rr33, hrr33, hf⟩ := bind_s hf
          refine g0_cVv (rm := (3, 72)) (As := [.int w3_5, .int p2]) (rest := []) ⟨hx, hb, hml, hown, hts⟩ hG hR hS (m14_minute l G K (ov I [(1170, o, w3_i_lost), (1181, o, w3_i_aimLeast)]) J X (ova A [((o + 2), a_now), ((o + 32), w3_a_fuel), ((o + 33), w3_a_burn), ((o + 34), w3_a_wet), ((o + 35), w3_a_heat), ((o + 39), w3_a_stood), ((o + 40), u32), ((o + 41), w3_a_aimBest)]) B Q o shM w3_5 p2 w3_i_lost a_now w3_a_fuel w3_a_burn w3_a_wet w3_a_heat (ov_get 0 rfl rfl) (ova_get 0 hN_A rfl) (ova_get 1 hN_A rfl) (ova_get 2 hN_A rfl) (ova_get 3 hN_A rfl) (ova_get 4 hN_A rfl) rr33 hrr33) (cwV 2 hts gi_X14_445 rfl rfl rfl hd_X14_minute ⟨by dsimp only; omega, by dsimp only; omega⟩) shM.1 rfl rfl hl.1 (Nat.le_of_ble_eq_true rfl) dX14_tryAims_171 ⟨Nat.le_refl _, Nat.le_refl _⟩ rfl (fun H locs hR hS => ?_)
          have hR : RS G K (ov I [(1170, o, rr33.1), (1181, o, w3_i_aimLeast)]) J X (ova A [((o + 2), a_now), ((o + 32), rr33.2.1), ((o + 33), rr33.2.2.1), ((o + 34), rr33.2.2.2.1), ((o + 35), rr33.2.2.2.2), ((o + 39), w3_a_stood), ((o + 40), u32), ((o + 41), w3_a_aimBest)]) B Q H := hR.to (ov_merge (l := [(1170, o, w3_i_lost), (1181, o, w3_i_aimLeast)]) rfl [0] [(1170, o, rr33.1)] rfl rfl) rfl rfl (ova_merge (l := [((o + 2), a_now), ((o + 32), w3_a_fuel), ((o + 33), w3_a_burn), ((o + 34), w3_a_wet), ((o + 35), w3_a_heat), ((o + 39), w3_a_stood), ((o + 40), u32), ((o + 41), w3_a_aimBest)]) hN_A [0, 1, 2, 3, 4] [((o + 2), a_now), ((o + 32), rr33.2.1), ((o + 33), rr33.2.2.1), ((o + 34), rr33.2.2.2.1), ((o + 35), rr33.2.2.2.2)] rfl rfl) rfl rfl
          refine lv_aload_n hx hb dX14_tryAims_174 rfl (lv_at hl 1 rfl) ?_
          refine lv_iload_n hx hb dX14_tryAims_175 rfl (lv_at hl 2 rfl) ?_
          refine lv_iconst (v := 1) hx hb dX14_tryAims_176 li_1 ?_
          obtain ⟨v34, ev34, hf⟩ := lt_some hf
          refine n_iadd hx hb ev34 dX14_tryAims_177 ?_
          refine lv_iload_n hx hb dX14_tryAims_178 rfl (lv_at hl 3 rfl) ?_
          obtain ⟨rr35, hrr35, hf⟩ := bind_s hf
          refine g0_cVv (rm := (d + 4, d * 25 + 95)) (As := [.int v34, .int p2]) (rest := []) ⟨hx, hb, hml, hown, hts⟩ hG hR hS (ih_X14_tryAims G K (ov I [(1170, o, rr33.1), (1181, o, w3_i_aimLeast)]) J X (ova A [((o + 2), a_now), ((o + 32), rr33.2.1), ((o + 33), rr33.2.2.1), ((o + 34), rr33.2.2.2.1), ((o + 35), rr33.2.2.2.2), ((o + 39), w3_a_stood), ((o + 40), u32), ((o + 41), w3_a_aimBest)]) B Q o shM v34 p2 rr33.1 w3_i_aimLeast i_aimMany a_now rr33.2.1 rr33.2.2.1 rr33.2.2.2.1 rr33.2.2.2.2 w3_a_stood u32 w3_a_aimBest (ov_get 0 rfl rfl) (ov_get 1 rfl rfl) ((congrFun (ov_no rfl) _).trans e_i_aimMany) (ova_get 0 hN_A rfl) (ova_get 1 hN_A rfl) (ova_get 2 hN_A rfl) (ova_get 3 hN_A rfl) (ova_get 4 hN_A rfl) (ova_get 5 hN_A rfl) (ova_get 6 hN_A rfl) (ova_get 7 hN_A rfl) rr35 hrr35) (cwV 2 hts gi_X14_476 rfl rfl rfl hd_X14_tryAims ⟨by dsimp only; omega, by dsimp only; omega⟩) shM.1 rfl rfl hl.1 (Nat.le_of_ble_eq_true rfl) dX14_tryAims_179 ⟨Nat.le_refl _, Nat.le_refl _⟩ rfl (fun H locs hR hS => ?_)
          have hR : RS G K (ov I [(1170, o, rr35.1), (1181, o, rr35.2.1)]) J X (ova A [((o + 2), a_now), ((o + 32), rr35.2.2.1), ((o + 33), rr35.2.2.2.1), ((o + 34), rr35.2.2.2.2.1), ((o + 35), rr35.2.2.2.2.2.1), ((o + 39), rr35.2.2.2.2.2.2.1), ((o + 40), rr35.2.2.2.2.2.2.2.1), ((o + 41), rr35.2.2.2.2.2.2.2.2)]) B Q H := hR.to (ov_merge (l := [(1170, o, rr33.1), (1181, o, w3_i_aimLeast)]) rfl [0, 1] [(1170, o, rr35.1), (1181, o, rr35.2.1)] rfl rfl) rfl rfl (ova_merge (l := [((o + 2), a_now), ((o + 32), rr33.2.1), ((o + 33), rr33.2.2.1), ((o + 34), rr33.2.2.2.1), ((o + 35), rr33.2.2.2.2), ((o + 39), w3_a_stood), ((o + 40), u32), ((o + 41), w3_a_aimBest)]) hN_A [0, 1, 2, 3, 4, 5, 6, 7] [((o + 2), a_now), ((o + 32), rr35.2.2.1), ((o + 33), rr35.2.2.2.1), ((o + 34), rr35.2.2.2.2.1), ((o + 35), rr35.2.2.2.2.2.1), ((o + 39), rr35.2.2.2.2.2.2.1), ((o + 40), rr35.2.2.2.2.2.2.2.1), ((o + 41), rr35.2.2.2.2.2.2.2.2)] rfl rfl) rfl rfl
          refine lv_aload_n hx hb dX14_tryAims_182 rfl (lv_at hl 1 rfl) ?_
          refine lv_iload_n hx hb dX14_tryAims_183 rfl (lv_at hl 2 rfl) ?_
          obtain ⟨rr36, hrr36, hf⟩ := bind_s hf
          refine g0_cVv (rm := (1, 20)) (As := [.int p1]) (rest := []) ⟨hx, hb, hml, hown, hts⟩ hG hR hS (m14_bringFire l G K (ov I [(1170, o, rr35.1), (1181, o, rr35.2.1)]) J X (ova A [((o + 2), a_now), ((o + 32), rr35.2.2.1), ((o + 33), rr35.2.2.2.1), ((o + 34), rr35.2.2.2.2.1), ((o + 35), rr35.2.2.2.2.2.1), ((o + 39), rr35.2.2.2.2.2.2.1), ((o + 40), rr35.2.2.2.2.2.2.2.1), ((o + 41), rr35.2.2.2.2.2.2.2.2)]) B Q o shM p1 a_now rr35.2.2.1 rr35.2.2.2.1 rr35.2.2.2.2.1 rr35.2.2.2.2.2.2.1 (ova_get 0 hN_A rfl) (ova_get 1 hN_A rfl) (ova_get 2 hN_A rfl) (ova_get 3 hN_A rfl) (ova_get 5 hN_A rfl) rr36 hrr36) (cwV 1 hts gi_X14_479 rfl rfl rfl hd_X14_bringFire ⟨by dsimp only; omega, by dsimp only; omega⟩) shM.1 rfl rfl hl.1 (Nat.le_of_ble_eq_true rfl) dX14_tryAims_184 ⟨Nat.le_refl _, Nat.le_refl _⟩ rfl (fun H locs hR hS => ?_)
          have hR : RS G K (ov I [(1170, o, rr35.1), (1181, o, rr35.2.1)]) J X (ova A [((o + 2), a_now), ((o + 32), rr36.1), ((o + 33), rr36.2.1), ((o + 34), rr36.2.2), ((o + 35), rr35.2.2.2.2.2.1), ((o + 39), rr35.2.2.2.2.2.2.1), ((o + 40), rr35.2.2.2.2.2.2.2.1), ((o + 41), rr35.2.2.2.2.2.2.2.2)]) B Q H := hR.to rfl rfl rfl (ova_merge (l := [((o + 2), a_now), ((o + 32), rr35.2.2.1), ((o + 33), rr35.2.2.2.1), ((o + 34), rr35.2.2.2.2.1), ((o + 35), rr35.2.2.2.2.2.1), ((o + 39), rr35.2.2.2.2.2.2.1), ((o + 40), rr35.2.2.2.2.2.2.2.1), ((o + 41), rr35.2.2.2.2.2.2.2.2)]) hN_A [0, 1, 2, 3, 5] [((o + 2), a_now), ((o + 32), rr36.1), ((o + 33), rr36.2.1), ((o + 34), rr36.2.2), ((o + 39), rr35.2.2.2.2.2.2.1)] rfl rfl) rfl rfl
          refine lv_aload_n hx hb dX14_tryAims_187 rfl (lv_at hl 1 rfl) ?_
          refine lv_iload_n hx hb dX14_tryAims_188 rfl (lv_at hl 4 rfl) ?_
          refine n_puti (li' := [(1170, o, i_lost), (1181, o, rr35.2.1)]) hx hb hts hown hG hR hS gPi_X14_423_11 shM.1 0 rfl rfl rfl dX14_tryAims_189 (fun H locs hR hS => ?_)
          exact hj192 v21 i_lost rr35.2.1 rr36.1 rr36.2.1 rr36.2.2 rr35.2.2.2.2.2.1 rr35.2.2.2.2.2.2.1 rr35.2.2.2.2.2.2.2.1 rr35.2.2.2.2.2.2.2.2 hf _ _ _ hR hS (lv_sub hl [1, 2, 3, 4, 0, 5] rfl)
        · have hf := ite_t c20 hf
          refine lv_goto (tgt := 192) hx hb dX14_tryAims_134 (by decide) ?_
          exact hj192 w3_4 w3_i_lost w3_i_aimLeast w3_a_fuel w3_a_burn w3_a_wet w3_a_heat w3_a_stood w3_a_aimRow w3_a_aimBest hf _ _ _ hR hS (lv_sub hl [0, 1, 2, 3, 4, 5] rfl)
  · have hf := ite_t c1 hf
    refine lv_iload_n hx hb dX14_tryAims_8 rfl (lv_at hl 1 rfl) ?_
    refine lv_istore_n (lv' := [(3, .int p1), (0, .ref o), (1, .int p1), (2, .int p2)]) hx hb dX14_tryAims_9 rfl hl (by decide) rfl (fun ls hl => ?_)
    obtain ⟨rl37, hw37, hfo37⟩ := bind_s hf
    have hx37_0 : ∀ (x37_0 : Int32 × (Nat → Int32) × (Nat → Int32) × (Nat → Int32) × (Nat → Int32)), f14_tryAims_e37_0 p1 i_aimLeast a_stood a_aimRow a_aimBest x37_0 = some out → ∀ (H : Heap) (locs : List Loc) (ls : Array Slot), RS G K (ov I [(1170, o, x37_0.1), (1181, o, i_aimLeast)]) J X (ova A [((o + 2), a_now), ((o + 32), x37_0.2.1), ((o + 33), x37_0.2.2.1), ((o + 34), x37_0.2.2.2.1), ((o + 35), x37_0.2.2.2.2), ((o + 39), a_stood), ((o + 40), a_aimRow), ((o + 41), a_aimBest)]) B Q H → va_S (gA G) s.heap H locs → lv_has ls 6 [(0, .ref o), (1, .int p1)] → W p l e ({ frames := (d + 1) + 4, cells := 0, slots := 0, locals := (d + 1) * 25 + 95 } : Room) s m args below meth c H locs 0 0 Z (F0 m 28 ls []) := by
      intro x37_0 hf H locs ls hR hS hl
      unfold f14_tryAims_e37_0 at hf
      refine lv_aload_n hx hb dX14_tryAims_28 rfl (lv_at hl 0 rfl) ?_
      refine n_geti (v := i_aimLeast) hx hb hts hown hG hR gFi_X14_470_11 shM.1 (ov_get 1 rfl rfl) dX14_tryAims_29 ?_
      refine lv_iconst (v := -1) hx hb dX14_tryAims_32 li_m1 ?_
      have hj48 : ∀ (_ : Unit), f14_tryAims_j48 p1 a_stood a_aimRow a_aimBest x37_0 = some out → ∀ (H : Heap) (locs : List Loc) (ls : Array Slot), RS G K (ov I [(1170, o, x37_0.1), (1181, o, i_aimLeast)]) J X (ova A [((o + 2), a_now), ((o + 32), x37_0.2.1), ((o + 33), x37_0.2.2.1), ((o + 34), x37_0.2.2.2.1), ((o + 35), x37_0.2.2.2.2), ((o + 39), a_stood), ((o + 40), a_aimRow), ((o + 41), a_aimBest)]) B Q H → va_S (gA G) s.heap H locs → lv_has ls 6 [(0, .ref o), (1, .int p1)] → W p l e ({ frames := (d + 1) + 4, cells := 0, slots := 0, locals := (d + 1) * 25 + 95 } : Room) s m args below meth c H locs 0 0 Z (F0 m 48 ls []) := by
        intro _ hf H locs ls hR hS hl
        unfold f14_tryAims_j48 at hf
        refine lv_aload_n hx hb dX14_tryAims_48 rfl (lv_at hl 0 rfl) ?_
        refine lv_aload_n hx hb dX14_tryAims_49 rfl (lv_at hl 0 rfl) ?_
        refine n_geti (v := x37_0.1) hx hb hts hown hG hR gFi_X14_423_11 shM.1 (ov_get 0 rfl rfl) dX14_tryAims_50 ?_
        refine n_puti (li' := [(1170, o, x37_0.1), (1181, o, x37_0.1)]) hx hb hts hown hG hR hS gPi_X14_470_11 shM.1 1 rfl rfl rfl dX14_tryAims_53 (fun H locs hR hS => ?_)
        refine lv_iconst (v := 0) hx hb dX14_tryAims_56 li_0 ?_
        refine lv_istore_n (lv' := [(3, .int (0 : Int32)), (0, .ref o), (1, .int p1)]) hx hb dX14_tryAims_57 rfl hl (by decide) rfl (fun ls hl => ?_)
        obtain ⟨rl38, hw38, hfo38⟩ := bind_s hf
        have hx38_0 : ∀ (x38_0 : Int32 × Int32 × (Nat → Int32) × (Nat → Int32) × (Nat → Int32) × (Nat → Int32) × (Nat → Int32) × (Nat → Int32) × (Nat → Int32)), f14_tryAims_e38_0 x38_0 = some out → ∀ (pc : Nat) (H : Heap) (locs : List Loc) (ls : Array Slot), decode cX14_tryAims pc = .ok (.return_, 1) → RS G K (ov I [(1170, o, x38_0.1), (1181, o, x38_0.2.1)]) J X (ova A [((o + 2), a_now), ((o + 32), x38_0.2.2.1), ((o + 33), x38_0.2.2.2.1), ((o + 34), x38_0.2.2.2.2.1), ((o + 35), x38_0.2.2.2.2.2.1), ((o + 39), x38_0.2.2.2.2.2.2.1), ((o + 40), x38_0.2.2.2.2.2.2.2.1), ((o + 41), x38_0.2.2.2.2.2.2.2.2)]) B Q H → va_S (gA G) s.heap H locs → W p l e ({ frames := (d + 1) + 4, cells := 0, slots := 0, locals := (d + 1) * 25 + 95 } : Room) s m args below meth c H locs 0 0 Z (F0 m pc ls []) := by
          intro x38_0 hf pc H locs ls hd hR hS
          unfold f14_tryAims_e38_0 at hf
          obtain rfl := some_i hf
          exact hend _ _ _ _ hd hR hS
        refine whl_walk (P := fun (s38 : Int32 × (Nat → Int32)) => ∀ (H : Heap) (locs : List Loc) (ls : Array Slot), RS G K (ov I [(1170, o, x37_0.1), (1181, o, x37_0.1)]) J X (ova A [((o + 2), a_now), ((o + 32), x37_0.2.1), ((o + 33), x37_0.2.2.1), ((o + 34), x37_0.2.2.2.1), ((o + 35), x37_0.2.2.2.2), ((o + 39), a_stood), ((o + 40), a_aimRow), ((o + 41), s38.2)]) B Q H → va_S (gA G) s.heap H locs → lv_has ls 6 [(0, .ref o), (1, .int p1), (3, .int s38.1)] → W p l e ({ frames := (d + 1) + 4, cells := 0, slots := 0, locals := (d + 1) * 25 + 95 } : Room) s m args below meth c H locs 0 0 Z (F0 m 58 ls [])) (r := rl38) ?_ FU _ hw38 _ _ _ hR hS (lv_sub hl [1, 2, 0] rfl)
        clear hR hS hl hf
        intro s38 o38 hf hk38 H locs ls hR hS hl
        obtain ⟨w38_3, w38_a_aimBest⟩ := s38
        have hf : f14_tryAims_s38 p1 a_stood a_aimRow x37_0 w38_3 w38_a_aimBest = some o38 := hf
        have hR : RS G K (ov I [(1170, o, x37_0.1), (1181, o, x37_0.1)]) J X (ova A [((o + 2), a_now), ((o + 32), x37_0.2.1), ((o + 33), x37_0.2.2.1), ((o + 34), x37_0.2.2.2.1), ((o + 35), x37_0.2.2.2.2), ((o + 39), a_stood), ((o + 40), a_aimRow), ((o + 41), w38_a_aimBest)]) B Q H := hR
        have hl : lv_has ls 6 [(0, .ref o), (1, .int p1), (3, .int w38_3)] := hl
        unfold f14_tryAims_s38 at hf
        refine lv_iload_n hx hb dX14_tryAims_58 rfl (lv_at hl 2 rfl) ?_
        refine lv_iload_n hx hb dX14_tryAims_59 rfl (lv_at hl 1 rfl) ?_
        refine lv_icmp_ge (tgt := 81) hx hb dX14_tryAims_60 (by decide) (fun c39 => ?_) (fun c39 => ?_)
        · have hf := ite_t c39 hf
          obtain rfl := some_i hf
          replace hk38 : _ = rl38 := hk38
          subst hk38
          exact hx38_0 (x37_0.1, x37_0.1, x37_0.2.1, x37_0.2.2.1, x37_0.2.2.2.1, x37_0.2.2.2.2, a_stood, a_aimRow, w38_a_aimBest) hfo38 _ _ _ _ dX14_tryAims_81 hR hS
        · have hf := ite_f c39 hf
          refine lv_aload_n hx hb dX14_tryAims_63 rfl (lv_at hl 0 rfl) ?_
          refine g_getr (b := (o + 41)) hx hb hts hown hG hR gFx_X14_136_11 shM.1 ((shM.2 40 _ rfl).2) dX14_tryAims_64 ?_
          refine lv_iload_n hx hb dX14_tryAims_67 rfl (lv_at hl 2 rfl) ?_
          refine lv_aload_n hx hb dX14_tryAims_68 rfl (lv_at hl 0 rfl) ?_
          refine g_getr (b := (o + 40)) hx hb hts hown hG hR gFx_X14_133_11 shM.1 ((shM.2 39 _ rfl).2) dX14_tryAims_69 ?_
          refine lv_iload_n hx hb dX14_tryAims_72 rfl (lv_at hl 2 rfl) ?_
          obtain ⟨c40, hf⟩ := gd_some hf
          obtain ⟨v41, ev41, hf⟩ := lt_some hf
          refine n_iald (x := a_aimRow) hx hb hG hR k_a_aimRow c40 (ova_get 6 hN_A rfl) ev41 dX14_tryAims_73 ?_
          obtain ⟨c42, hf⟩ := gd_some hf
          obtain ⟨u43, eu43, hf⟩ := lt_some hf
          refine n_iast (la' := [((o + 2), a_now), ((o + 32), x37_0.2.1), ((o + 33), x37_0.2.2.1), ((o + 34), x37_0.2.2.2.1), ((o + 35), x37_0.2.2.2.2), ((o + 39), a_stood), ((o + 40), a_aimRow), ((o + 41), u43)]) hx hb hG hR hS k_a_aimBest c42 hN_A 7 rfl eu43 rfl dX14_tryAims_74 (fun H locs hR hS => ?_)
          obtain ⟨v44, ev44, hf⟩ := lt_some hf
          refine lv_iinc (k := 2) (v := v44) (lv' := [(3, .int v44), (0, .ref o), (1, .int p1)]) hx hb dX14_tryAims_75 hl rfl (by rw [ev44]; rfl) (by decide) rfl (fun ls hl => ?_)
          refine lv_goto (tgt := 58) hx hb dX14_tryAims_78 (by decide) ?_
          obtain rfl := some_i hf
          exact hk38 _ _ _ hR hS (lv_sub hl [1, 2, 0] rfl)
      refine lv_icmp_eq (tgt := 48) hx hb dX14_tryAims_33 (by decide) (fun c45 => ?_) (fun c45 => ?_)
      · have hf := ite_t c45 hf
        exact hj48 () hf _ _ _ hR hS (lv_sub hl [0, 1] rfl)
      · have hf := ite_f c45 hf
        refine lv_aload_n hx hb dX14_tryAims_36 rfl (lv_at hl 0 rfl) ?_
        refine n_geti (v := x37_0.1) hx hb hts hown hG hR gFi_X14_423_11 shM.1 (ov_get 0 rfl rfl) dX14_tryAims_37 ?_
        refine lv_aload_n hx hb dX14_tryAims_40 rfl (lv_at hl 0 rfl) ?_
        refine n_geti (v := i_aimLeast) hx hb hts hown hG hR gFi_X14_470_11 shM.1 (ov_get 1 rfl rfl) dX14_tryAims_41 ?_
        refine lv_icmp_lt (tgt := 48) hx hb dX14_tryAims_44 (by decide) (fun c46 => ?_) (fun c46 => ?_)
        · have hf := ite_t c46 hf
          exact hj48 () hf _ _ _ hR hS (lv_sub hl [0, 1] rfl)
        · have hf := ite_f c46 hf
          obtain rfl := some_i hf
          exact hend _ _ _ _ dX14_tryAims_47 hR hS
    refine whl_walk (P := fun (s37 : Int32 × Int32 × (Nat → Int32) × (Nat → Int32) × (Nat → Int32) × (Nat → Int32)) => ∀ (H : Heap) (locs : List Loc) (ls : Array Slot), RS G K (ov I [(1170, o, s37.2.1), (1181, o, i_aimLeast)]) J X (ova A [((o + 2), a_now), ((o + 32), s37.2.2.1), ((o + 33), s37.2.2.2.1), ((o + 34), s37.2.2.2.2.1), ((o + 35), s37.2.2.2.2.2), ((o + 39), a_stood), ((o + 40), a_aimRow), ((o + 41), a_aimBest)]) B Q H → va_S (gA G) s.heap H locs → lv_has ls 6 [(0, .ref o), (1, .int p1), (3, .int s37.1)] → W p l e ({ frames := (d + 1) + 4, cells := 0, slots := 0, locals := (d + 1) * 25 + 95 } : Room) s m args below meth c H locs 0 0 Z (F0 m 10 ls [])) (r := rl37) ?_ FU _ hw37 _ _ _ hR hS (lv_sub hl [1, 2, 0] rfl)
    clear hR hS hl hf
    intro s37 o37 hf hk37 H locs ls hR hS hl
    obtain ⟨w37_3, w37_i_lost, w37_a_fuel, w37_a_burn, w37_a_wet, w37_a_heat⟩ := s37
    have hf : f14_tryAims_s37 a_now w37_3 w37_i_lost w37_a_fuel w37_a_burn w37_a_wet w37_a_heat = some o37 := hf
    have hR : RS G K (ov I [(1170, o, w37_i_lost), (1181, o, i_aimLeast)]) J X (ova A [((o + 2), a_now), ((o + 32), w37_a_fuel), ((o + 33), w37_a_burn), ((o + 34), w37_a_wet), ((o + 35), w37_a_heat), ((o + 39), a_stood), ((o + 40), a_aimRow), ((o + 41), a_aimBest)]) B Q H := hR
    have hl : lv_has ls 6 [(0, .ref o), (1, .int p1), (3, .int w37_3)] := hl
    unfold f14_tryAims_s37 at hf
    refine lv_iload_n hx hb dX14_tryAims_10 rfl (lv_at hl 2 rfl) ?_
    refine lv_bipush (v := 20) hx hb dX14_tryAims_11 lb_20 ?_
    refine lv_icmp_ge (tgt := 28) hx hb dX14_tryAims_13 (by decide) (fun c47 => ?_) (fun c47 => ?_)
    · have hf := ite_t c47 hf
      obtain rfl := some_i hf
      replace hk37 : _ = rl37 := hk37
      subst hk37
      exact hx37_0 (w37_i_lost, w37_a_fuel, w37_a_burn, w37_a_wet, w37_a_heat) hfo37 _ _ _ hR hS (lv_sub hl [0, 1] rfl)
    · have hf := ite_f c47 hf
      refine lv_aload_n hx hb dX14_tryAims_16 rfl (lv_at hl 0 rfl) ?_
      refine lv_iconst (v := -1) hx hb dX14_tryAims_17 li_m1 ?_
      refine lv_iconst (v := 0) hx hb dX14_tryAims_18 li_0 ?_
      obtain ⟨rr48, hrr48, hf⟩ := bind_s hf
      refine g0_cVv (rm := (3, 72)) (As := [.int (-1 : Int32), .int (0 : Int32)]) (rest := []) ⟨hx, hb, hml, hown, hts⟩ hG hR hS (m14_minute l G K (ov I [(1170, o, w37_i_lost), (1181, o, i_aimLeast)]) J X (ova A [((o + 2), a_now), ((o + 32), w37_a_fuel), ((o + 33), w37_a_burn), ((o + 34), w37_a_wet), ((o + 35), w37_a_heat), ((o + 39), a_stood), ((o + 40), a_aimRow), ((o + 41), a_aimBest)]) B Q o shM (-1 : Int32) (0 : Int32) w37_i_lost a_now w37_a_fuel w37_a_burn w37_a_wet w37_a_heat (ov_get 0 rfl rfl) (ova_get 0 hN_A rfl) (ova_get 1 hN_A rfl) (ova_get 2 hN_A rfl) (ova_get 3 hN_A rfl) (ova_get 4 hN_A rfl) rr48 hrr48) (cwV 2 hts gi_X14_445 rfl rfl rfl hd_X14_minute ⟨by dsimp only; omega, by dsimp only; omega⟩) shM.1 rfl rfl hl.1 (Nat.le_of_ble_eq_true rfl) dX14_tryAims_19 ⟨Nat.le_refl _, Nat.le_refl _⟩ rfl (fun H locs hR hS => ?_)
      have hR : RS G K (ov I [(1170, o, rr48.1), (1181, o, i_aimLeast)]) J X (ova A [((o + 2), a_now), ((o + 32), rr48.2.1), ((o + 33), rr48.2.2.1), ((o + 34), rr48.2.2.2.1), ((o + 35), rr48.2.2.2.2), ((o + 39), a_stood), ((o + 40), a_aimRow), ((o + 41), a_aimBest)]) B Q H := hR.to (ov_merge (l := [(1170, o, w37_i_lost), (1181, o, i_aimLeast)]) rfl [0] [(1170, o, rr48.1)] rfl rfl) rfl rfl (ova_merge (l := [((o + 2), a_now), ((o + 32), w37_a_fuel), ((o + 33), w37_a_burn), ((o + 34), w37_a_wet), ((o + 35), w37_a_heat), ((o + 39), a_stood), ((o + 40), a_aimRow), ((o + 41), a_aimBest)]) hN_A [0, 1, 2, 3, 4] [((o + 2), a_now), ((o + 32), rr48.2.1), ((o + 33), rr48.2.2.1), ((o + 34), rr48.2.2.2.1), ((o + 35), rr48.2.2.2.2)] rfl rfl) rfl rfl
      obtain ⟨v49, ev49, hf⟩ := lt_some hf
      refine lv_iinc (k := 2) (v := v49) (lv' := [(3, .int v49), (0, .ref o), (1, .int p1)]) hx hb dX14_tryAims_22 hl rfl (by rw [ev49]; rfl) (by decide) rfl (fun ls hl => ?_)
      refine lv_goto (tgt := 10) hx hb dX14_tryAims_25 (by decide) ?_
      obtain rfl := some_i hf
      exact hk37 _ _ _ hR hS (lv_sub hl [1, 2, 0] rfl)
theorem f14_tryAims_z : f14_tryAims 0 = fun _ _ _ _ _ _ _ _ _ _ _ _ _ => none := rfl
theorem f14_tryAims_s (d : Nat) : f14_tryAims (d + 1) = fb14_tryAims (f14_tryAims d) := rfl
theorem mG_X14_tryAims (l : Launch) : ∀ d : Nat, (∀ (G : gG) (K : gK) (I : gI) (J : gJ) (X : gX) (A : gI) (B : gJ) (Q : gX) (o : Nat) (shM : Sh K X o 11 rows11) (p1 : Int32) (p2 : Int32) (i_lost : Int32) (i_aimLeast : Int32) (i_aimMany : Int32) (a_now : Nat → Int32) (a_fuel : Nat → Int32) (a_burn : Nat → Int32) (a_wet : Nat → Int32) (a_heat : Nat → Int32) (a_stood : Nat → Int32) (a_aimRow : Nat → Int32) (a_aimBest : Nat → Int32) (e_i_lost : I 1170 o = i_lost) (e_i_aimLeast : I 1181 o = i_aimLeast) (e_i_aimMany : I 1182 o = i_aimMany) (e_a_now : A (o + 2) = a_now) (e_a_fuel : A (o + 32) = a_fuel) (e_a_burn : A (o + 33) = a_burn) (e_a_wet : A (o + 34) = a_wet) (e_a_heat : A (o + 35) = a_heat) (e_a_stood : A (o + 39) = a_stood) (e_a_aimRow : A (o + 40) = a_aimRow) (e_a_aimBest : A (o + 41) = a_aimBest) (out : Int32 × Int32 × (Nat → Int32) × (Nat → Int32) × (Nat → Int32) × (Nat → Int32) × (Nat → Int32) × (Nat → Int32) × (Nat → Int32)) (hf : f14_tryAims d p1 p2 i_lost i_aimLeast i_aimMany a_now a_fuel a_burn a_wet a_heat a_stood a_aimRow a_aimBest = some out), GMet l yX14_tryAims cX14_tryAims 6 none (d + 4) (d * 25 + 95) G [.ref o, .int p1, .int p2] K I J X A B Q none K (ov I [(1170, o, out.1), (1181, o, out.2.1)]) J X (ova A [((o + 2), a_now), ((o + 32), out.2.2.1), ((o + 33), out.2.2.2.1), ((o + 34), out.2.2.2.2.1), ((o + 35), out.2.2.2.2.2.1), ((o + 39), out.2.2.2.2.2.2.1), ((o + 40), out.2.2.2.2.2.2.2.1), ((o + 41), out.2.2.2.2.2.2.2.2)]) B Q 0 0) := by
  intro d
  induction d with
  | zero =>
    exact (by intro G K I J X A B Q o shM p1 p2 i_lost i_aimLeast i_aimMany a_now a_fuel a_burn a_wet a_heat a_stood a_aimRow a_aimBest e_i_lost e_i_aimLeast e_i_aimMany e_a_now e_a_fuel e_a_burn e_a_wet e_a_heat e_a_stood e_a_aimRow e_a_aimBest out hf; rw [f14_tryAims_z] at hf; cases hf)
  | succ d ih =>
    exact (by intro G K I J X A B Q o shM p1 p2 i_lost i_aimLeast i_aimMany a_now a_fuel a_burn a_wet a_heat a_stood a_aimRow a_aimBest e_i_lost e_i_aimLeast e_i_aimMany e_a_now e_a_fuel e_a_burn e_a_wet e_a_heat e_a_stood e_a_aimRow e_a_aimBest out hf; rw [f14_tryAims_s] at hf; exact w14_tryAims l d (f14_tryAims d) ih G K I J X A B Q o shM p1 p2 i_lost i_aimLeast i_aimMany a_now a_fuel a_burn a_wet a_heat a_stood a_aimRow a_aimBest e_i_lost e_i_aimLeast e_i_aimMany e_a_now e_a_fuel e_a_burn e_a_wet e_a_heat e_a_stood e_a_aimRow e_a_aimBest out hf)
theorem m14_tryAims (l : Launch) (d : Nat) : ∀ (G : gG) (K : gK) (I : gI) (J : gJ) (X : gX) (A : gI) (B : gJ) (Q : gX) (o : Nat) (shM : Sh K X o 11 rows11) (p1 : Int32) (p2 : Int32) (i_lost : Int32) (i_aimLeast : Int32) (i_aimMany : Int32) (a_now : Nat → Int32) (a_fuel : Nat → Int32) (a_burn : Nat → Int32) (a_wet : Nat → Int32) (a_heat : Nat → Int32) (a_stood : Nat → Int32) (a_aimRow : Nat → Int32) (a_aimBest : Nat → Int32) (e_i_lost : I 1170 o = i_lost) (e_i_aimLeast : I 1181 o = i_aimLeast) (e_i_aimMany : I 1182 o = i_aimMany) (e_a_now : A (o + 2) = a_now) (e_a_fuel : A (o + 32) = a_fuel) (e_a_burn : A (o + 33) = a_burn) (e_a_wet : A (o + 34) = a_wet) (e_a_heat : A (o + 35) = a_heat) (e_a_stood : A (o + 39) = a_stood) (e_a_aimRow : A (o + 40) = a_aimRow) (e_a_aimBest : A (o + 41) = a_aimBest) (out : Int32 × Int32 × (Nat → Int32) × (Nat → Int32) × (Nat → Int32) × (Nat → Int32) × (Nat → Int32) × (Nat → Int32) × (Nat → Int32)) (hf : f14_tryAims d p1 p2 i_lost i_aimLeast i_aimMany a_now a_fuel a_burn a_wet a_heat a_stood a_aimRow a_aimBest = some out), GMet l yX14_tryAims cX14_tryAims 6 none (d + 4) (d * 25 + 95) G [.ref o, .int p1, .int p2] K I J X A B Q none K (ov I [(1170, o, out.1), (1181, o, out.2.1)]) J X (ova A [((o + 2), a_now), ((o + 32), out.2.2.1), ((o + 33), out.2.2.2.1), ((o + 34), out.2.2.2.2.1), ((o + 35), out.2.2.2.2.2.1), ((o + 39), out.2.2.2.2.2.2.1), ((o + 40), out.2.2.2.2.2.2.2.1), ((o + 41), out.2.2.2.2.2.2.2.2)]) B Q 0 0 := (mG_X14_tryAims l d)
noncomputable def f14_aims_e10_0 (p1 : Int32) (rr1 : Int32 × (Nat → Int32)) (rr9 : Int32 × Int32 × (Nat → Int32) × (Nat → Int32) × (Nat → Int32) × (Nat → Int32) × (Nat → Int32) × (Nat → Int32) × (Nat → Int32)) (x10_0 : (Nat → Int32)) : Option (Int32 × Int32 × Int32 × Int32 × Int32 × Int32 × Int32 × (Nat → Int32) × (Nat → Int32) × (Nat → Int32) × (Nat → Int32) × (Nat → Int32) × (Nat → Int32) × (Nat → Int32) × (Nat → Int32) × (Nat → Int32)) :=
  some (rr9.2.1, (0 : Int32), rr1.1, rr9.1, rr9.2.1, p1, p1, rr1.2, rr9.2.2.1, rr9.2.2.2.1, rr9.2.2.2.2.1, rr9.2.2.2.2.2.1, rr9.2.2.2.2.2.2.1, rr9.2.2.2.2.2.2.2.1, rr9.2.2.2.2.2.2.2.2, x10_0)

noncomputable def f14_aims_s10 (p1 : Int32) (rr9 : Int32 × Int32 × (Nat → Int32) × (Nat → Int32) × (Nat → Int32) × (Nat → Int32) × (Nat → Int32) × (Nat → Int32) × (Nat → Int32)) (w10_3 : Int32) (w10_a_aimTold : Nat → Int32) : Option ((Int32 × (Nat → Int32)) ⊕ ((Nat → Int32))) :=
  if p1 ≤ w10_3 then
    some (.inr w10_a_aimTold)
  else
    gd (inb w10_3 3) <|
    lt (rr9.2.2.2.2.2.2.2.2 w10_3.toNatClampNeg) fun v13 =>
    gd (inb w10_3 3) <|
    lt (upd w10_a_aimTold w10_3.toNatClampNeg v13) fun u15 =>
    lt (w10_3 + (1 : Int32)) fun v16 =>
    some (.inl (v16, u15))

noncomputable def f14_aims (p1 : Int32) (p2 : Int32) (i_thrown : Int32) (i_isBegun : Int32) (i_lost : Int32) (i_aimLeast : Int32) (i_aimMany : Int32) (i_aimToldMany : Int32) (a_now : Nat → Int32) (a_fuel : Nat → Int32) (a_burn : Nat → Int32) (a_wet : Nat → Int32) (a_heat : Nat → Int32) (a_stood : Nat → Int32) (a_aimRow : Nat → Int32) (a_aimBest : Nat → Int32) (a_aimTold : Nat → Int32) : Option (Int32 × Int32 × Int32 × Int32 × Int32 × Int32 × Int32 × (Nat → Int32) × (Nat → Int32) × (Nat → Int32) × (Nat → Int32) × (Nat → Int32) × (Nat → Int32) × (Nat → Int32) × (Nat → Int32) × (Nat → Int32)) :=
  (f14_lay i_isBegun a_now).bind fun rr1 =>
  (f14_isIn p1 (1 : Int32) (3 : Int32)).bind fun rr2 =>
  if rr2 = 0 then
    some ((-1 : Int32), (0 : Int32), rr1.1, i_lost, i_aimLeast, i_aimMany, i_aimToldMany, rr1.2, a_fuel, a_burn, a_wet, a_heat, a_stood, a_aimRow, a_aimBest, a_aimTold)
  else
    (f14_isIn p2 (0 : Int32) (999 : Int32)).bind fun rr4 =>
    if rr4 = 0 then
      some ((-1 : Int32), (0 : Int32), rr1.1, i_lost, i_aimLeast, i_aimMany, i_aimToldMany, rr1.2, a_fuel, a_burn, a_wet, a_heat, a_stood, a_aimRow, a_aimBest, a_aimTold)
    else
      (f14_cells rr1.2).bind fun rr6 =>
      if rr6 = 0 then
        some ((-1 : Int32), (0 : Int32), rr1.1, i_lost, i_aimLeast, i_aimMany, i_aimToldMany, rr1.2, a_fuel, a_burn, a_wet, a_heat, a_stood, a_aimRow, a_aimBest, a_aimTold)
      else
        (f14_light i_lost rr1.2 a_fuel a_burn a_wet).bind fun rr8 =>
        (f14_tryAims 5 (0 : Int32) p2 rr8.1 (-1 : Int32) p1 rr1.2 rr8.2.1 rr8.2.2.1 rr8.2.2.2 a_heat a_stood a_aimRow a_aimBest).bind fun rr9 =>
        (whl (fun (s10 : Int32 × (Nat → Int32)) => f14_aims_s10 p1 rr9 s10.1 s10.2) FU ((0 : Int32), a_aimTold)).bind fun rl10 =>
        f14_aims_e10_0 p1 rr1 rr9 rl10
set_option maxHeartbeats 4000000 in
theorem m14_aims (l : Launch) (G : gG) (K : gK) (I : gI) (J : gJ) (X : gX) (A : gI) (B : gJ) (Q : gX) (o : Nat) (shM : Sh K X o 11 rows11) (p1 : Int32) (p2 : Int32) (i_thrown : Int32) (i_isBegun : Int32) (i_lost : Int32) (i_aimLeast : Int32) (i_aimMany : Int32) (i_aimToldMany : Int32) (a_now : Nat → Int32) (a_fuel : Nat → Int32) (a_burn : Nat → Int32) (a_wet : Nat → Int32) (a_heat : Nat → Int32) (a_stood : Nat → Int32) (a_aimRow : Nat → Int32) (a_aimBest : Nat → Int32) (a_aimTold : Nat → Int32) (e_i_thrown : I 1100 o = i_thrown) (e_i_isBegun : I 1122 o = i_isBegun) (e_i_lost : I 1170 o = i_lost) (e_i_aimLeast : I 1181 o = i_aimLeast) (e_i_aimMany : I 1182 o = i_aimMany) (e_i_aimToldMany : I 1183 o = i_aimToldMany) (e_a_now : A (o + 2) = a_now) (e_a_fuel : A (o + 32) = a_fuel) (e_a_burn : A (o + 33) = a_burn) (e_a_wet : A (o + 34) = a_wet) (e_a_heat : A (o + 35) = a_heat) (e_a_stood : A (o + 39) = a_stood) (e_a_aimRow : A (o + 40) = a_aimRow) (e_a_aimBest : A (o + 41) = a_aimBest) (e_a_aimTold : A (o + 42) = a_aimTold) (out : Int32 × Int32 × Int32 × Int32 × Int32 × Int32 × Int32 × (Nat → Int32) × (Nat → Int32) × (Nat → Int32) × (Nat → Int32) × (Nat → Int32) × (Nat → Int32) × (Nat → Int32) × (Nat → Int32) × (Nat → Int32)) (hf : f14_aims p1 p2 i_thrown i_isBegun i_lost i_aimLeast i_aimMany i_aimToldMany a_now a_fuel a_burn a_wet a_heat a_stood a_aimRow a_aimBest a_aimTold = some out) : GMet l yX14_aims cX14_aims 4 (some .int) (10) (245) G [.ref o, .int p1, .int p2] K I J X A B Q (some (.int out.1)) K (ov I [(1100, o, out.2.1), (1122, o, out.2.2.1), (1170, o, out.2.2.2.1), (1181, o, out.2.2.2.2.1), (1182, o, out.2.2.2.2.2.1), (1183, o, out.2.2.2.2.2.2.1)]) J X (ova A [((o + 2), out.2.2.2.2.2.2.2.1), ((o + 32), out.2.2.2.2.2.2.2.2.1), ((o + 33), out.2.2.2.2.2.2.2.2.2.1), ((o + 34), out.2.2.2.2.2.2.2.2.2.2.1), ((o + 35), out.2.2.2.2.2.2.2.2.2.2.2.1), ((o + 39), out.2.2.2.2.2.2.2.2.2.2.2.2.1), ((o + 40), out.2.2.2.2.2.2.2.2.2.2.2.2.2.1), ((o + 41), out.2.2.2.2.2.2.2.2.2.2.2.2.2.2.1), ((o + 42), out.2.2.2.2.2.2.2.2.2.2.2.2.2.2.2)]) B Q 0 0 := by
  refine GMet.of (y := yX14_aims) rfl (Nat.le_of_ble_eq_true rfl) rfl ?_
  intro p e s m below meth c ls hx hb hr hml hlocks hts hown hname hG hR hl
  have hown : s.vm.findClass RX14 = some m.cls := hown
  have k_a_now : K (o + 2) = some (.inr (0, 800)) := (shM.2 1 _ rfl).1
  have k_a_fuel : K (o + 32) = some (.inr (0, 64)) := (shM.2 31 _ rfl).1
  have k_a_burn : K (o + 33) = some (.inr (0, 64)) := (shM.2 32 _ rfl).1
  have k_a_wet : K (o + 34) = some (.inr (0, 64)) := (shM.2 33 _ rfl).1
  have k_a_heat : K (o + 35) = some (.inr (0, 64)) := (shM.2 34 _ rfl).1
  have k_a_stood : K (o + 39) = some (.inr (0, 576)) := (shM.2 38 _ rfl).1
  have k_a_aimRow : K (o + 40) = some (.inr (0, 3)) := (shM.2 39 _ rfl).1
  have k_a_aimBest : K (o + 41) = some (.inr (0, 3)) := (shM.2 40 _ rfl).1
  have k_a_aimTold : K (o + 42) = some (.inr (0, 3)) := (shM.2 41 _ rfl).1
  have hN_A : nda [(o + 2), (o + 32), (o + 33), (o + 34), (o + 35), (o + 39), (o + 40), (o + 41), (o + 42)] := nd_off o [2, 32, 33, 34, 35, 39, 40, 41, 42] rfl
  have hR : RS G K (ov I [(1100, o, i_thrown), (1122, o, i_isBegun), (1170, o, i_lost), (1181, o, i_aimLeast), (1182, o, i_aimMany), (1183, o, i_aimToldMany)]) J X (ova A [((o + 2), a_now), ((o + 32), a_fuel), ((o + 33), a_burn), ((o + 34), a_wet), ((o + 35), a_heat), ((o + 39), a_stood), ((o + 40), a_aimRow), ((o + 41), a_aimBest), ((o + 42), a_aimTold)]) B Q s.heap := hR.to (Eq.symm (ov_sc e_i_thrown (ov_sc e_i_isBegun (ov_sc e_i_lost (ov_sc e_i_aimLeast (ov_sc e_i_aimMany (ov_sc e_i_aimToldMany rfl))))))) rfl rfl (Eq.symm (ova_sc e_a_now (ova_sc e_a_fuel (ova_sc e_a_burn (ova_sc e_a_wet (ova_sc e_a_heat (ova_sc e_a_stood (ova_sc e_a_aimRow (ova_sc e_a_aimBest (ova_sc e_a_aimTold rfl)))))))))) rfl rfl
  have hS : va_S (gA G) s.heap s.heap [] := va_S.rf
  have hend : ∀ (pc : Nat) (H : Heap) (locs : List Loc) (ls : Array Slot), decode cX14_aims pc = .ok (.ireturn, 1) → RS G K (ov I [(1100, o, out.2.1), (1122, o, out.2.2.1), (1170, o, out.2.2.2.1), (1181, o, out.2.2.2.2.1), (1182, o, out.2.2.2.2.2.1), (1183, o, out.2.2.2.2.2.2.1)]) J X (ova A [((o + 2), out.2.2.2.2.2.2.2.1), ((o + 32), out.2.2.2.2.2.2.2.2.1), ((o + 33), out.2.2.2.2.2.2.2.2.2.1), ((o + 34), out.2.2.2.2.2.2.2.2.2.2.1), ((o + 35), out.2.2.2.2.2.2.2.2.2.2.2.1), ((o + 39), out.2.2.2.2.2.2.2.2.2.2.2.2.1), ((o + 40), out.2.2.2.2.2.2.2.2.2.2.2.2.2.1), ((o + 41), out.2.2.2.2.2.2.2.2.2.2.2.2.2.2.1), ((o + 42), out.2.2.2.2.2.2.2.2.2.2.2.2.2.2.2)]) B Q H → va_S (gA G) s.heap H locs → W p l e ({ frames := 10, cells := 0, slots := 0, locals := 245 } : Room) s m ([.ref o, .int p1, .int p2] : List Value).toArray below meth c H locs 0 0 (MQ below (gQ G (some (.int out.1)) K (ov I [(1100, o, out.2.1), (1122, o, out.2.2.1), (1170, o, out.2.2.2.1), (1181, o, out.2.2.2.2.1), (1182, o, out.2.2.2.2.2.1), (1183, o, out.2.2.2.2.2.2.1)]) J X (ova A [((o + 2), out.2.2.2.2.2.2.2.1), ((o + 32), out.2.2.2.2.2.2.2.2.1), ((o + 33), out.2.2.2.2.2.2.2.2.2.1), ((o + 34), out.2.2.2.2.2.2.2.2.2.2.1), ((o + 35), out.2.2.2.2.2.2.2.2.2.2.2.1), ((o + 39), out.2.2.2.2.2.2.2.2.2.2.2.2.1), ((o + 40), out.2.2.2.2.2.2.2.2.2.2.2.2.2.1), ((o + 41), out.2.2.2.2.2.2.2.2.2.2.2.2.2.2.1), ((o + 42), out.2.2.2.2.2.2.2.2.2.2.2.2.2.2.2)]) B Q) ([.ref o, .int p1, .int p2] : List Value).toArray s 0 0 (gA G)) (F0 m pc ls [.int out.1]) := fun pc H locs ls hd hR hS => g_iret hx hb hr hlocks hG hR hS rfl hd
  generalize MQ below (gQ G (some (.int out.1)) K (ov I [(1100, o, out.2.1), (1122, o, out.2.2.1), (1170, o, out.2.2.2.1), (1181, o, out.2.2.2.2.1), (1182, o, out.2.2.2.2.2.1), (1183, o, out.2.2.2.2.2.2.1)]) J X (ova A [((o + 2), out.2.2.2.2.2.2.2.1), ((o + 32), out.2.2.2.2.2.2.2.2.1), ((o + 33), out.2.2.2.2.2.2.2.2.2.1), ((o + 34), out.2.2.2.2.2.2.2.2.2.2.1), ((o + 35), out.2.2.2.2.2.2.2.2.2.2.2.1), ((o + 39), out.2.2.2.2.2.2.2.2.2.2.2.2.1), ((o + 40), out.2.2.2.2.2.2.2.2.2.2.2.2.2.1), ((o + 41), out.2.2.2.2.2.2.2.2.2.2.2.2.2.2.1), ((o + 42), out.2.2.2.2.2.2.2.2.2.2.2.2.2.2.2)]) B Q) ([.ref o, .int p1, .int p2] : List Value).toArray s 0 0 (gA G) = Z at hend ⊢
  generalize ([.ref o, .int p1, .int p2] : List Value).toArray = args at hts hend ⊢
  unfold f14_aims at hf
  refine lv_aload_n hx hb dX14_aims_0 rfl (lv_at hl 0 rfl) ?_
  refine lv_iconst (v := 0) hx hb dX14_aims_1 li_0 ?_
  refine n_puti (li' := [(1100, o, (0 : Int32)), (1122, o, i_isBegun), (1170, o, i_lost), (1181, o, i_aimLeast), (1182, o, i_aimMany), (1183, o, i_aimToldMany)]) hx hb hts hown hG hR hS gPi_X14_148_11 shM.1 0 rfl rfl rfl dX14_aims_2 (fun H locs hR hS => ?_)
  refine lv_aload_n hx hb dX14_aims_5 rfl (lv_at hl 0 rfl) ?_
  obtain ⟨rr1, hrr1, hf⟩ := bind_s hf
  refine g0_cVv (rm := (1, 21)) (As := []) (rest := []) ⟨hx, hb, hml, hown, hts⟩ hG hR hS (m14_lay l G K (ov I [(1100, o, (0 : Int32)), (1122, o, i_isBegun), (1170, o, i_lost), (1181, o, i_aimLeast), (1182, o, i_aimMany), (1183, o, i_aimToldMany)]) J X (ova A [((o + 2), a_now), ((o + 32), a_fuel), ((o + 33), a_burn), ((o + 34), a_wet), ((o + 35), a_heat), ((o + 39), a_stood), ((o + 40), a_aimRow), ((o + 41), a_aimBest), ((o + 42), a_aimTold)]) B Q o shM i_isBegun a_now (ov_get 1 rfl rfl) (ova_get 0 hN_A rfl) rr1 hrr1) (cwV 0 hts gi_X14_232 rfl rfl rfl hd_X14_lay ⟨Nat.le_of_ble_eq_true rfl, Nat.le_of_ble_eq_true rfl⟩) shM.1 rfl rfl hl.1 (Nat.le_of_ble_eq_true rfl) dX14_aims_6 ⟨Nat.le_refl _, Nat.le_refl _⟩ rfl (fun H locs hR hS => ?_)
  have hR : RS G K (ov I [(1100, o, (0 : Int32)), (1122, o, rr1.1), (1170, o, i_lost), (1181, o, i_aimLeast), (1182, o, i_aimMany), (1183, o, i_aimToldMany)]) J X (ova A [((o + 2), rr1.2), ((o + 32), a_fuel), ((o + 33), a_burn), ((o + 34), a_wet), ((o + 35), a_heat), ((o + 39), a_stood), ((o + 40), a_aimRow), ((o + 41), a_aimBest), ((o + 42), a_aimTold)]) B Q H := hR.to (ov_merge (l := [(1100, o, (0 : Int32)), (1122, o, i_isBegun), (1170, o, i_lost), (1181, o, i_aimLeast), (1182, o, i_aimMany), (1183, o, i_aimToldMany)]) rfl [1] [(1122, o, rr1.1)] rfl rfl) rfl rfl (ova_merge (l := [((o + 2), a_now), ((o + 32), a_fuel), ((o + 33), a_burn), ((o + 34), a_wet), ((o + 35), a_heat), ((o + 39), a_stood), ((o + 40), a_aimRow), ((o + 41), a_aimBest), ((o + 42), a_aimTold)]) hN_A [0] [((o + 2), rr1.2)] rfl rfl) rfl rfl
  refine lv_iload_n hx hb dX14_aims_9 rfl (lv_at hl 1 rfl) ?_
  refine lv_iconst (v := 1) hx hb dX14_aims_10 li_1 ?_
  refine lv_iconst (v := 3) hx hb dX14_aims_11 li_3 ?_
  obtain ⟨rr2, hrr2, hf⟩ := bind_s hf
  refine g0_cS (rm := (0, 0)) (As := [.int p1, .int (1 : Int32), .int (3 : Int32)]) (rest := []) ⟨hx, hb, hml, hown, hts⟩ hG hR hS (m14_isIn l G K (ov I [(1100, o, (0 : Int32)), (1122, o, rr1.1), (1170, o, i_lost), (1181, o, i_aimLeast), (1182, o, i_aimMany), (1183, o, i_aimToldMany)]) J X (ova A [((o + 2), rr1.2), ((o + 32), a_fuel), ((o + 33), a_burn), ((o + 34), a_wet), ((o + 35), a_heat), ((o + 39), a_stood), ((o + 40), a_aimRow), ((o + 41), a_aimBest), ((o + 42), a_aimTold)]) B Q p1 (1 : Int32) (3 : Int32) rr2 hrr2) (cwS 3 hts gi_X14_219 rfl rfl rfl hd_X14_isIn ⟨Nat.le_of_ble_eq_true rfl, Nat.le_of_ble_eq_true rfl⟩) rfl hl.1 (Nat.le_of_ble_eq_true rfl) dX14_aims_12 ⟨Nat.le_refl _, Nat.le_refl _⟩ rfl (fun H locs hR hS => ?_)
  refine lv_if_eq (tgt := 36) hx hb dX14_aims_15 (by decide) (fun c3 => ?_) (fun c3 => ?_)
  · have hf := ite_t c3 hf
    refine lv_iconst (v := -1) hx hb dX14_aims_36 li_m1 ?_
    obtain rfl := some_i hf
    exact hend _ _ _ _ dX14_aims_37 hR hS
  · have hf := ite_f c3 hf
    refine lv_iload_n hx hb dX14_aims_18 rfl (lv_at hl 2 rfl) ?_
    refine lv_iconst (v := 0) hx hb dX14_aims_19 li_0 ?_
    refine lv_sipush (v := 999) hx hb dX14_aims_20 ls_999 ?_
    obtain ⟨rr4, hrr4, hf⟩ := bind_s hf
    refine g0_cS (rm := (0, 0)) (As := [.int p2, .int (0 : Int32), .int (999 : Int32)]) (rest := []) ⟨hx, hb, hml, hown, hts⟩ hG hR hS (m14_isIn l G K (ov I [(1100, o, (0 : Int32)), (1122, o, rr1.1), (1170, o, i_lost), (1181, o, i_aimLeast), (1182, o, i_aimMany), (1183, o, i_aimToldMany)]) J X (ova A [((o + 2), rr1.2), ((o + 32), a_fuel), ((o + 33), a_burn), ((o + 34), a_wet), ((o + 35), a_heat), ((o + 39), a_stood), ((o + 40), a_aimRow), ((o + 41), a_aimBest), ((o + 42), a_aimTold)]) B Q p2 (0 : Int32) (999 : Int32) rr4 hrr4) (cwS 3 hts gi_X14_219 rfl rfl rfl hd_X14_isIn ⟨Nat.le_of_ble_eq_true rfl, Nat.le_of_ble_eq_true rfl⟩) rfl hl.1 (Nat.le_of_ble_eq_true rfl) dX14_aims_23 ⟨Nat.le_refl _, Nat.le_refl _⟩ rfl (fun H locs hR hS => ?_)
    refine lv_if_eq (tgt := 36) hx hb dX14_aims_26 (by decide) (fun c5 => ?_) (fun c5 => ?_)
    · have hf := ite_t c5 hf
      refine lv_iconst (v := -1) hx hb dX14_aims_36 li_m1 ?_
      obtain rfl := some_i hf
      exact hend _ _ _ _ dX14_aims_37 hR hS
    · have hf := ite_f c5 hf
      refine lv_aload_n hx hb dX14_aims_29 rfl (lv_at hl 0 rfl) ?_
      obtain ⟨rr6, hrr6, hf⟩ := bind_s hf
      refine g0_cV (rm := (0, 0)) (As := []) (rest := []) ⟨hx, hb, hml, hown, hts⟩ hG hR hS (m14_cells l G K (ov I [(1100, o, (0 : Int32)), (1122, o, rr1.1), (1170, o, i_lost), (1181, o, i_aimLeast), (1182, o, i_aimMany), (1183, o, i_aimToldMany)]) J X (ova A [((o + 2), rr1.2), ((o + 32), a_fuel), ((o + 33), a_burn), ((o + 34), a_wet), ((o + 35), a_heat), ((o + 39), a_stood), ((o + 40), a_aimRow), ((o + 41), a_aimBest), ((o + 42), a_aimTold)]) B Q o shM rr1.2 (ova_get 0 hN_A rfl) rr6 hrr6) (cwV 0 hts gi_X14_426 rfl rfl rfl hd_X14_cells ⟨Nat.le_of_ble_eq_true rfl, Nat.le_of_ble_eq_true rfl⟩) shM.1 rfl rfl hl.1 (Nat.le_of_ble_eq_true rfl) dX14_aims_30 ⟨Nat.le_refl _, Nat.le_refl _⟩ rfl (fun H locs hR hS => ?_)
      refine lv_if_ne (tgt := 38) hx hb dX14_aims_33 (by decide) (fun c7 => ?_) (fun c7 => ?_)
      · have hf := ite_f c7 hf
        refine lv_aload_n hx hb dX14_aims_38 rfl (lv_at hl 0 rfl) ?_
        obtain ⟨rr8, hrr8, hf⟩ := bind_s hf
        refine g0_cVv (rm := (1, 20)) (As := []) (rest := []) ⟨hx, hb, hml, hown, hts⟩ hG hR hS (m14_light l G K (ov I [(1100, o, (0 : Int32)), (1122, o, rr1.1), (1170, o, i_lost), (1181, o, i_aimLeast), (1182, o, i_aimMany), (1183, o, i_aimToldMany)]) J X (ova A [((o + 2), rr1.2), ((o + 32), a_fuel), ((o + 33), a_burn), ((o + 34), a_wet), ((o + 35), a_heat), ((o + 39), a_stood), ((o + 40), a_aimRow), ((o + 41), a_aimBest), ((o + 42), a_aimTold)]) B Q o shM i_lost rr1.2 a_fuel a_burn a_wet (ov_get 2 rfl rfl) (ova_get 0 hN_A rfl) (ova_get 1 hN_A rfl) (ova_get 2 hN_A rfl) (ova_get 3 hN_A rfl) rr8 hrr8) (cwV 0 hts gi_X14_451 rfl rfl rfl hd_X14_light ⟨Nat.le_of_ble_eq_true rfl, Nat.le_of_ble_eq_true rfl⟩) shM.1 rfl rfl hl.1 (Nat.le_of_ble_eq_true rfl) dX14_aims_39 ⟨Nat.le_refl _, Nat.le_refl _⟩ rfl (fun H locs hR hS => ?_)
        have hR : RS G K (ov I [(1100, o, (0 : Int32)), (1122, o, rr1.1), (1170, o, rr8.1), (1181, o, i_aimLeast), (1182, o, i_aimMany), (1183, o, i_aimToldMany)]) J X (ova A [((o + 2), rr1.2), ((o + 32), rr8.2.1), ((o + 33), rr8.2.2.1), ((o + 34), rr8.2.2.2), ((o + 35), a_heat), ((o + 39), a_stood), ((o + 40), a_aimRow), ((o + 41), a_aimBest), ((o + 42), a_aimTold)]) B Q H := hR.to (ov_merge (l := [(1100, o, (0 : Int32)), (1122, o, rr1.1), (1170, o, i_lost), (1181, o, i_aimLeast), (1182, o, i_aimMany), (1183, o, i_aimToldMany)]) rfl [2] [(1170, o, rr8.1)] rfl rfl) rfl rfl (ova_merge (l := [((o + 2), rr1.2), ((o + 32), a_fuel), ((o + 33), a_burn), ((o + 34), a_wet), ((o + 35), a_heat), ((o + 39), a_stood), ((o + 40), a_aimRow), ((o + 41), a_aimBest), ((o + 42), a_aimTold)]) hN_A [0, 1, 2, 3] [((o + 2), rr1.2), ((o + 32), rr8.2.1), ((o + 33), rr8.2.2.1), ((o + 34), rr8.2.2.2)] rfl rfl) rfl rfl
        refine lv_aload_n hx hb dX14_aims_42 rfl (lv_at hl 0 rfl) ?_
        refine lv_iload_n hx hb dX14_aims_43 rfl (lv_at hl 1 rfl) ?_
        refine n_puti (li' := [(1100, o, (0 : Int32)), (1122, o, rr1.1), (1170, o, rr8.1), (1181, o, i_aimLeast), (1182, o, p1), (1183, o, i_aimToldMany)]) hx hb hts hown hG hR hS gPi_X14_467_11 shM.1 4 rfl rfl rfl dX14_aims_44 (fun H locs hR hS => ?_)
        refine lv_aload_n hx hb dX14_aims_47 rfl (lv_at hl 0 rfl) ?_
        refine lv_iconst (v := -1) hx hb dX14_aims_48 li_m1 ?_
        refine n_puti (li' := [(1100, o, (0 : Int32)), (1122, o, rr1.1), (1170, o, rr8.1), (1181, o, (-1 : Int32)), (1182, o, p1), (1183, o, i_aimToldMany)]) hx hb hts hown hG hR hS gPi_X14_470_11 shM.1 3 rfl rfl rfl dX14_aims_49 (fun H locs hR hS => ?_)
        refine lv_aload_n hx hb dX14_aims_52 rfl (lv_at hl 0 rfl) ?_
        refine lv_iconst (v := 0) hx hb dX14_aims_53 li_0 ?_
        refine lv_iload_n hx hb dX14_aims_54 rfl (lv_at hl 2 rfl) ?_
        obtain ⟨rr9, hrr9, hf⟩ := bind_s hf
        refine g0_cVv (rm := (9, 220)) (As := [.int (0 : Int32), .int p2]) (rest := []) ⟨hx, hb, hml, hown, hts⟩ hG hR hS (m14_tryAims l 5 G K (ov I [(1100, o, (0 : Int32)), (1122, o, rr1.1), (1170, o, rr8.1), (1181, o, (-1 : Int32)), (1182, o, p1), (1183, o, i_aimToldMany)]) J X (ova A [((o + 2), rr1.2), ((o + 32), rr8.2.1), ((o + 33), rr8.2.2.1), ((o + 34), rr8.2.2.2), ((o + 35), a_heat), ((o + 39), a_stood), ((o + 40), a_aimRow), ((o + 41), a_aimBest), ((o + 42), a_aimTold)]) B Q o shM (0 : Int32) p2 rr8.1 (-1 : Int32) p1 rr1.2 rr8.2.1 rr8.2.2.1 rr8.2.2.2 a_heat a_stood a_aimRow a_aimBest (ov_get 2 rfl rfl) (ov_get 3 rfl rfl) (ov_get 4 rfl rfl) (ova_get 0 hN_A rfl) (ova_get 1 hN_A rfl) (ova_get 2 hN_A rfl) (ova_get 3 hN_A rfl) (ova_get 4 hN_A rfl) (ova_get 5 hN_A rfl) (ova_get 6 hN_A rfl) (ova_get 7 hN_A rfl) rr9 hrr9) (cwV 2 hts gi_X14_476 rfl rfl rfl hd_X14_tryAims ⟨Nat.le_of_ble_eq_true rfl, Nat.le_of_ble_eq_true rfl⟩) shM.1 rfl rfl hl.1 (Nat.le_of_ble_eq_true rfl) dX14_aims_55 ⟨Nat.le_refl _, Nat.le_refl _⟩ rfl (fun H locs hR hS => ?_)
        have hR : RS G K (ov I [(1100, o, (0 : Int32)), (1122, o, rr1.1), (1170, o, rr9.1), (1181, o, rr9.2.1), (1182, o, p1), (1183, o, i_aimToldMany)]) J X (ova A [((o + 2), rr1.2), ((o + 32), rr9.2.2.1), ((o + 33), rr9.2.2.2.1), ((o + 34), rr9.2.2.2.2.1), ((o + 35), rr9.2.2.2.2.2.1), ((o + 39), rr9.2.2.2.2.2.2.1), ((o + 40), rr9.2.2.2.2.2.2.2.1), ((o + 41), rr9.2.2.2.2.2.2.2.2), ((o + 42), a_aimTold)]) B Q H := hR.to (ov_merge (l := [(1100, o, (0 : Int32)), (1122, o, rr1.1), (1170, o, rr8.1), (1181, o, (-1 : Int32)), (1182, o, p1), (1183, o, i_aimToldMany)]) rfl [2, 3] [(1170, o, rr9.1), (1181, o, rr9.2.1)] rfl rfl) rfl rfl (ova_merge (l := [((o + 2), rr1.2), ((o + 32), rr8.2.1), ((o + 33), rr8.2.2.1), ((o + 34), rr8.2.2.2), ((o + 35), a_heat), ((o + 39), a_stood), ((o + 40), a_aimRow), ((o + 41), a_aimBest), ((o + 42), a_aimTold)]) hN_A [0, 1, 2, 3, 4, 5, 6, 7] [((o + 2), rr1.2), ((o + 32), rr9.2.2.1), ((o + 33), rr9.2.2.2.1), ((o + 34), rr9.2.2.2.2.1), ((o + 35), rr9.2.2.2.2.2.1), ((o + 39), rr9.2.2.2.2.2.2.1), ((o + 40), rr9.2.2.2.2.2.2.2.1), ((o + 41), rr9.2.2.2.2.2.2.2.2)] rfl rfl) rfl rfl
        refine lv_aload_n hx hb dX14_aims_58 rfl (lv_at hl 0 rfl) ?_
        refine lv_iload_n hx hb dX14_aims_59 rfl (lv_at hl 1 rfl) ?_
        refine n_puti (li' := [(1100, o, (0 : Int32)), (1122, o, rr1.1), (1170, o, rr9.1), (1181, o, rr9.2.1), (1182, o, p1), (1183, o, p1)]) hx hb hts hown hG hR hS gPi_X14_482_11 shM.1 5 rfl rfl rfl dX14_aims_60 (fun H locs hR hS => ?_)
        refine lv_iconst (v := 0) hx hb dX14_aims_63 li_0 ?_
        refine lv_istore_n (lv' := [(3, .int (0 : Int32)), (0, .ref o), (1, .int p1), (2, .int p2)]) hx hb dX14_aims_64 rfl hl (by decide) rfl (fun ls hl => ?_)
        obtain ⟨rl10, hw10, hfo10⟩ := bind_s hf
        have hx10_0 : ∀ (x10_0 : (Nat → Int32)), f14_aims_e10_0 p1 rr1 rr9 x10_0 = some out → ∀ (H : Heap) (locs : List Loc) (ls : Array Slot), RS G K (ov I [(1100, o, (0 : Int32)), (1122, o, rr1.1), (1170, o, rr9.1), (1181, o, rr9.2.1), (1182, o, p1), (1183, o, p1)]) J X (ova A [((o + 2), rr1.2), ((o + 32), rr9.2.2.1), ((o + 33), rr9.2.2.2.1), ((o + 34), rr9.2.2.2.2.1), ((o + 35), rr9.2.2.2.2.2.1), ((o + 39), rr9.2.2.2.2.2.2.1), ((o + 40), rr9.2.2.2.2.2.2.2.1), ((o + 41), rr9.2.2.2.2.2.2.2.2), ((o + 42), x10_0)]) B Q H → va_S (gA G) s.heap H locs → lv_has ls 4 [(0, .ref o)] → W p l e ({ frames := 10, cells := 0, slots := 0, locals := 245 } : Room) s m args below meth c H locs 0 0 Z (F0 m 88 ls []) := by
          intro x10_0 hf H locs ls hR hS hl
          unfold f14_aims_e10_0 at hf
          refine lv_aload_n hx hb dX14_aims_88 rfl (lv_at hl 0 rfl) ?_
          refine n_geti (v := rr9.2.1) hx hb hts hown hG hR gFi_X14_470_11 shM.1 (ov_get 3 rfl rfl) dX14_aims_89 ?_
          obtain rfl := some_i hf
          exact hend _ _ _ _ dX14_aims_92 hR hS
        refine whl_walk (P := fun (s10 : Int32 × (Nat → Int32)) => ∀ (H : Heap) (locs : List Loc) (ls : Array Slot), RS G K (ov I [(1100, o, (0 : Int32)), (1122, o, rr1.1), (1170, o, rr9.1), (1181, o, rr9.2.1), (1182, o, p1), (1183, o, p1)]) J X (ova A [((o + 2), rr1.2), ((o + 32), rr9.2.2.1), ((o + 33), rr9.2.2.2.1), ((o + 34), rr9.2.2.2.2.1), ((o + 35), rr9.2.2.2.2.2.1), ((o + 39), rr9.2.2.2.2.2.2.1), ((o + 40), rr9.2.2.2.2.2.2.2.1), ((o + 41), rr9.2.2.2.2.2.2.2.2), ((o + 42), s10.2)]) B Q H → va_S (gA G) s.heap H locs → lv_has ls 4 [(0, .ref o), (1, .int p1), (3, .int s10.1)] → W p l e ({ frames := 10, cells := 0, slots := 0, locals := 245 } : Room) s m args below meth c H locs 0 0 Z (F0 m 65 ls [])) (r := rl10) ?_ FU _ hw10 _ _ _ hR hS (lv_sub hl [1, 2, 0] rfl)
        clear hR hS hl hf
        intro s10 o10 hf hk10 H locs ls hR hS hl
        obtain ⟨w10_3, w10_a_aimTold⟩ := s10
        have hf : f14_aims_s10 p1 rr9 w10_3 w10_a_aimTold = some o10 := hf
        have hR : RS G K (ov I [(1100, o, (0 : Int32)), (1122, o, rr1.1), (1170, o, rr9.1), (1181, o, rr9.2.1), (1182, o, p1), (1183, o, p1)]) J X (ova A [((o + 2), rr1.2), ((o + 32), rr9.2.2.1), ((o + 33), rr9.2.2.2.1), ((o + 34), rr9.2.2.2.2.1), ((o + 35), rr9.2.2.2.2.2.1), ((o + 39), rr9.2.2.2.2.2.2.1), ((o + 40), rr9.2.2.2.2.2.2.2.1), ((o + 41), rr9.2.2.2.2.2.2.2.2), ((o + 42), w10_a_aimTold)]) B Q H := hR
        have hl : lv_has ls 4 [(0, .ref o), (1, .int p1), (3, .int w10_3)] := hl
        unfold f14_aims_s10 at hf
        refine lv_iload_n hx hb dX14_aims_65 rfl (lv_at hl 2 rfl) ?_
        refine lv_iload_n hx hb dX14_aims_66 rfl (lv_at hl 1 rfl) ?_
        refine lv_icmp_ge (tgt := 88) hx hb dX14_aims_67 (by decide) (fun c11 => ?_) (fun c11 => ?_)
        · have hf := ite_t c11 hf
          obtain rfl := some_i hf
          replace hk10 : _ = rl10 := hk10
          subst hk10
          exact hx10_0 w10_a_aimTold hfo10 _ _ _ hR hS (lv_sub hl [0] rfl)
        · have hf := ite_f c11 hf
          refine lv_aload_n hx hb dX14_aims_70 rfl (lv_at hl 0 rfl) ?_
          refine g_getr (b := (o + 42)) hx hb hts hown hG hR gFx_X14_139_11 shM.1 ((shM.2 41 _ rfl).2) dX14_aims_71 ?_
          refine lv_iload_n hx hb dX14_aims_74 rfl (lv_at hl 2 rfl) ?_
          refine lv_aload_n hx hb dX14_aims_75 rfl (lv_at hl 0 rfl) ?_
          refine g_getr (b := (o + 41)) hx hb hts hown hG hR gFx_X14_136_11 shM.1 ((shM.2 40 _ rfl).2) dX14_aims_76 ?_
          refine lv_iload_n hx hb dX14_aims_79 rfl (lv_at hl 2 rfl) ?_
          obtain ⟨c12, hf⟩ := gd_some hf
          obtain ⟨v13, ev13, hf⟩ := lt_some hf
          refine n_iald (x := rr9.2.2.2.2.2.2.2.2) hx hb hG hR k_a_aimBest c12 (ova_get 7 hN_A rfl) ev13 dX14_aims_80 ?_
          obtain ⟨c14, hf⟩ := gd_some hf
          obtain ⟨u15, eu15, hf⟩ := lt_some hf
          refine n_iast (la' := [((o + 2), rr1.2), ((o + 32), rr9.2.2.1), ((o + 33), rr9.2.2.2.1), ((o + 34), rr9.2.2.2.2.1), ((o + 35), rr9.2.2.2.2.2.1), ((o + 39), rr9.2.2.2.2.2.2.1), ((o + 40), rr9.2.2.2.2.2.2.2.1), ((o + 41), rr9.2.2.2.2.2.2.2.2), ((o + 42), u15)]) hx hb hG hR hS k_a_aimTold c14 hN_A 8 rfl eu15 rfl dX14_aims_81 (fun H locs hR hS => ?_)
          obtain ⟨v16, ev16, hf⟩ := lt_some hf
          refine lv_iinc (k := 2) (v := v16) (lv' := [(3, .int v16), (0, .ref o), (1, .int p1)]) hx hb dX14_aims_82 hl rfl (by rw [ev16]; rfl) (by decide) rfl (fun ls hl => ?_)
          refine lv_goto (tgt := 65) hx hb dX14_aims_85 (by decide) ?_
          obtain rfl := some_i hf
          exact hk10 _ _ _ hR hS (lv_sub hl [1, 2, 0] rfl)
      · have hf := ite_t c7 hf
        refine lv_iconst (v := -1) hx hb dX14_aims_36 li_m1 ?_
        obtain rfl := some_i hf
        exact hend _ _ _ _ dX14_aims_37 hR hS
noncomputable def f14_isSo_j104  : Option (Int32) :=
  some (0 : Int32)

noncomputable def f14_isSo_j126  : Option (Int32) :=
  some (1 : Int32)

noncomputable def f14_isSo_j173 (a_now : Nat → Int32) (v2 : Int32) (v8 : Int32) (j173_s0 : Int32) : Option (Int32) :=
  lt (v2 + (3 : Int32)) fun v30 =>
  gd (inb v30 800) <|
  lt (a_now v30.toNatClampNeg) fun v32 =>
  if v32 = (60 : Int32) then
    if v8 ≤ j173_s0 then
      some (0 : Int32)
    else
      some (1 : Int32)
  else
    lt (v2 + (3 : Int32)) fun v34 =>
    gd (inb v34 800) <|
    lt (a_now v34.toNatClampNeg) fun v36 =>
    if v36 = (61 : Int32) then
      if j173_s0 = v8 then
        some (1 : Int32)
      else
        some (0 : Int32)
    else
      if j173_s0 ≤ v8 then
        some (0 : Int32)
      else
        some (1 : Int32)

noncomputable def fb14_isSo (q_X14_isSo : Int32 → Int32 → (Nat → Int32) → (Nat → Int32) → Option (Int32)) (p1 : Int32) (p2 : Int32) (a_now : Nat → Int32) (a_night : Nat → Int32) : Option (Int32) :=
  lt ((4 : Int32) * p1) fun v1 =>
  lt ((550 : Int32) + v1) fun v2 =>
  lt (v2 + (1 : Int32)) fun v3 =>
  gd (inb v3 800) <|
  lt (a_now v3.toNatClampNeg) fun v5 =>
  lt (v2 + (2 : Int32)) fun v6 =>
  gd (inb v6 800) <|
  lt (a_now v6.toNatClampNeg) fun v8 =>
  gd (inb v2 800) <|
  lt (a_now v2.toNatClampNeg) fun v10 =>
  if v10 = 1 then
    (q_X14_isSo v5 p2 a_now a_night).bind fun rr12 =>
    if rr12 = 0 then
      some (1 : Int32)
    else
      some (0 : Int32)
  else
  if v10 = 2 then
    (q_X14_isSo v5 p2 a_now a_night).bind fun rr15 =>
    if rr15 = 0 then
      f14_isSo_j104
    else
      (q_X14_isSo v8 p2 a_now a_night).bind fun rr17 =>
      if rr17 = 0 then
        f14_isSo_j104
      else
        some (1 : Int32)
  else
  if v10 = 3 then
    (q_X14_isSo v5 p2 a_now a_night).bind fun rr20 =>
    if rr20 = 0 then
      (q_X14_isSo v8 p2 a_now a_night).bind fun rr22 =>
      if rr22 = 0 then
        some (0 : Int32)
      else
        f14_isSo_j126
    else
      f14_isSo_j126
  else
  if v10 = 4 then
    lt ((4 : Int32) * p2) fun v25 =>
    lt (v25 + (2 : Int32)) fun v26 =>
    gd (inb v26 240) <|
    lt (a_night v26.toNatClampNeg) fun v28 =>
    if v28 = 0 then
      some (1 : Int32)
    else
      some (0 : Int32)
  else
  if v5 = 0 then
    f14_isSo_j173 a_now v2 v8 p2
  else
    lt ((4 : Int32) * p2) fun v42 =>
    lt (v42 + v5) fun v43 =>
    lt (v43 - (1 : Int32)) fun v44 =>
    gd (inb v44 240) <|
    lt (a_night v44.toNatClampNeg) fun v46 =>
    f14_isSo_j173 a_now v2 v8 v46
noncomputable def fG_X14_isSo : Nat → (Int32 → Int32 → (Nat → Int32) → (Nat → Int32) → Option (Int32))
  | 0 => fun _ _ _ _ => none
  | d + 1 => fb14_isSo (fG_X14_isSo d)
noncomputable def f14_isSo (d : Nat) : Int32 → Int32 → (Nat → Int32) → (Nat → Int32) → Option (Int32) := (fG_X14_isSo d)
set_option maxHeartbeats 4000000 in
theorem w14_isSo (l : Launch) (d : Nat) (q_X14_isSo : Int32 → Int32 → (Nat → Int32) → (Nat → Int32) → Option (Int32)) (ih_X14_isSo : ∀ (G : gG) (K : gK) (I : gI) (J : gJ) (X : gX) (A : gI) (B : gJ) (Q : gX) (o : Nat) (shM : Sh K X o 11 rows11) (p1 : Int32) (p2 : Int32) (a_now : Nat → Int32) (a_night : Nat → Int32) (e_a_now : A (o + 2) = a_now) (e_a_night : A (o + 43) = a_night) (out : Int32) (hf : q_X14_isSo p1 p2 a_now a_night = some out) , GMet l yX14_isSo cX14_isSo 7 (some .boolean) (d + 0) (d * 26 + 0) G [.ref o, .int p1, .int p2] K I J X A B Q (some (.int out)) K I J X A B Q 0 0) : ∀ (G : gG) (K : gK) (I : gI) (J : gJ) (X : gX) (A : gI) (B : gJ) (Q : gX) (o : Nat) (shM : Sh K X o 11 rows11) (p1 : Int32) (p2 : Int32) (a_now : Nat → Int32) (a_night : Nat → Int32) (e_a_now : A (o + 2) = a_now) (e_a_night : A (o + 43) = a_night) (out : Int32) (hf : fb14_isSo q_X14_isSo p1 p2 a_now a_night = some out), GMet l yX14_isSo cX14_isSo 7 (some .boolean) ((d + 1) + 0) ((d + 1) * 26 + 0) G [.ref o, .int p1, .int p2] K I J X A B Q (some (.int out)) K I J X A B Q 0 0 := by
  intro G K I J X A B Q o shM p1 p2 a_now a_night e_a_now e_a_night out hf
  refine GMet.of (y := yX14_isSo) rfl (Nat.le_of_ble_eq_true rfl) rfl ?_
  intro p e s m below meth c ls hx hb hr hml hlocks hts hown hname hG hR hl
  have hown : s.vm.findClass RX14 = some m.cls := hown
  have k_a_now : K (o + 2) = some (.inr (0, 800)) := (shM.2 1 _ rfl).1
  have k_a_night : K (o + 43) = some (.inr (0, 240)) := (shM.2 42 _ rfl).1
  have hR : RS G K I J X A B Q s.heap := hR.to rfl rfl rfl rfl rfl rfl
  have hS : va_S (gA G) s.heap s.heap [] := va_S.rf
  have hend : ∀ (pc : Nat) (H : Heap) (locs : List Loc) (ls : Array Slot), decode cX14_isSo pc = .ok (.ireturn, 1) → narrow .boolean (.int out) = .int out → RS G K I J X A B Q H → va_S (gA G) s.heap H locs → W p l e ({ frames := (d + 1) + 0, cells := 0, slots := 0, locals := (d + 1) * 26 + 0 } : Room) s m ([.ref o, .int p1, .int p2] : List Value).toArray below meth c H locs 0 0 (MQ below (gQ G (some (.int out)) K I J X A B Q) ([.ref o, .int p1, .int p2] : List Value).toArray s 0 0 (gA G)) (F0 m pc ls [.int out]) := fun pc H locs ls hd hz hR hS => g_zret hx hb hr hlocks hz hG hR hS rfl hd
  generalize MQ below (gQ G (some (.int out)) K I J X A B Q) ([.ref o, .int p1, .int p2] : List Value).toArray s 0 0 (gA G) = Z at hend ⊢
  generalize ([.ref o, .int p1, .int p2] : List Value).toArray = args at hts hend ⊢
  unfold fb14_isSo at hf
  refine lv_sipush (v := 550) hx hb dX14_isSo_0 ls_550 ?_
  refine lv_iconst (v := 4) hx hb dX14_isSo_3 li_4 ?_
  refine lv_iload_n hx hb dX14_isSo_4 rfl (lv_at hl 1 rfl) ?_
  obtain ⟨v1, ev1, hf⟩ := lt_some hf
  refine n_imul hx hb ev1 dX14_isSo_5 ?_
  obtain ⟨v2, ev2, hf⟩ := lt_some hf
  refine n_iadd hx hb ev2 dX14_isSo_6 ?_
  refine lv_istore_n (lv' := [(3, .int v2), (0, .ref o), (1, .int p1), (2, .int p2)]) hx hb dX14_isSo_7 rfl hl (by decide) rfl (fun ls hl => ?_)
  refine lv_aload_n hx hb dX14_isSo_8 rfl (lv_at hl 1 rfl) ?_
  refine g_getr (b := (o + 2)) hx hb hts hown hG hR gFx_X14_13_11 shM.1 ((shM.2 1 _ rfl).2) dX14_isSo_9 ?_
  refine lv_iload_n hx hb dX14_isSo_12 rfl (lv_at hl 0 rfl) ?_
  refine lv_iconst (v := 1) hx hb dX14_isSo_13 li_1 ?_
  obtain ⟨v3, ev3, hf⟩ := lt_some hf
  refine n_iadd hx hb ev3 dX14_isSo_14 ?_
  obtain ⟨c4, hf⟩ := gd_some hf
  obtain ⟨v5, ev5, hf⟩ := lt_some hf
  refine n_iald (x := a_now) hx hb hG hR k_a_now c4 e_a_now ev5 dX14_isSo_15 ?_
  refine lv_istore (lv' := [(4, .int v5), (3, .int v2), (0, .ref o), (1, .int p1), (2, .int p2)]) hx hb dX14_isSo_16 hl (by decide) rfl (fun ls hl => ?_)
  refine lv_aload_n hx hb dX14_isSo_18 rfl (lv_at hl 2 rfl) ?_
  refine g_getr (b := (o + 2)) hx hb hts hown hG hR gFx_X14_13_11 shM.1 ((shM.2 1 _ rfl).2) dX14_isSo_19 ?_
  refine lv_iload_n hx hb dX14_isSo_22 rfl (lv_at hl 1 rfl) ?_
  refine lv_iconst (v := 2) hx hb dX14_isSo_23 li_2 ?_
  obtain ⟨v6, ev6, hf⟩ := lt_some hf
  refine n_iadd hx hb ev6 dX14_isSo_24 ?_
  obtain ⟨c7, hf⟩ := gd_some hf
  obtain ⟨v8, ev8, hf⟩ := lt_some hf
  refine n_iald (x := a_now) hx hb hG hR k_a_now c7 e_a_now ev8 dX14_isSo_25 ?_
  refine lv_istore (lv' := [(5, .int v8), (4, .int v5), (3, .int v2), (0, .ref o), (1, .int p1), (2, .int p2)]) hx hb dX14_isSo_26 hl (by decide) rfl (fun ls hl => ?_)
  refine lv_aload_n hx hb dX14_isSo_28 rfl (lv_at hl 3 rfl) ?_
  refine g_getr (b := (o + 2)) hx hb hts hown hG hR gFx_X14_13_11 shM.1 ((shM.2 1 _ rfl).2) dX14_isSo_29 ?_
  refine lv_iload_n hx hb dX14_isSo_32 rfl (lv_at hl 2 rfl) ?_
  obtain ⟨c9, hf⟩ := gd_some hf
  obtain ⟨v10, ev10, hf⟩ := lt_some hf
  refine n_iald (x := a_now) hx hb hG hR k_a_now c9 e_a_now ev10 dX14_isSo_33 ?_
  by_cases c11 : v10 = 1
  · have hf := ite_t c11 hf
    refine lv_tableIn (tgt := 64) hx hb dX14_isSo_34 (by rw [c11]; decide) (by rw [c11]; decide) (off := 30) (by rw [c11]; rfl) (by decide) ?_
    refine lv_aload_n hx hb dX14_isSo_64 rfl (lv_at hl 3 rfl) ?_
    refine lv_iload hx hb dX14_isSo_65 (lv_at hl 1 rfl) ?_
    refine lv_iload_n hx hb dX14_isSo_67 rfl (lv_at hl 5 rfl) ?_
    obtain ⟨rr12, hrr12, hf⟩ := bind_s hf
    refine g0_cV (rm := (d + 0, d * 26 + 0)) (As := [.int v5, .int p2]) (rest := []) ⟨hx, hb, hml, hown, hts⟩ hG hR hS (ih_X14_isSo G K I J X A B Q o shM v5 p2 a_now a_night e_a_now e_a_night rr12 hrr12) (cwV 2 hts gi_X14_537 rfl rfl rfl hd_X14_isSo ⟨by dsimp only; omega, by dsimp only; omega⟩) shM.1 rfl rfl hl.1 (Nat.le_of_ble_eq_true rfl) dX14_isSo_68 ⟨Nat.le_refl _, Nat.le_refl _⟩ rfl (fun H locs hR hS => ?_)
    refine lv_if_ne (tgt := 78) hx hb dX14_isSo_71 (by decide) (fun c13 => ?_) (fun c13 => ?_)
    · have hf := ite_f c13 hf
      refine lv_iconst (v := 0) hx hb dX14_isSo_78 li_0 ?_
      obtain rfl := some_i hf
      exact hend _ _ _ _ dX14_isSo_79 nz_0 hR hS
    · have hf := ite_t c13 hf
      refine lv_iconst (v := 1) hx hb dX14_isSo_74 li_1 ?_
      refine lv_goto (tgt := 79) hx hb dX14_isSo_75 (by decide) ?_
      obtain rfl := some_i hf
      exact hend _ _ _ _ dX14_isSo_79 nz_1 hR hS
  have hf := ite_f c11 hf
  by_cases c14 : v10 = 2
  · have hf := ite_t c14 hf
    refine lv_tableIn (tgt := 80) hx hb dX14_isSo_34 (by rw [c14]; decide) (by rw [c14]; decide) (off := 46) (by rw [c14]; rfl) (by decide) ?_
    refine lv_aload_n hx hb dX14_isSo_80 rfl (lv_at hl 3 rfl) ?_
    refine lv_iload hx hb dX14_isSo_81 (lv_at hl 1 rfl) ?_
    refine lv_iload_n hx hb dX14_isSo_83 rfl (lv_at hl 5 rfl) ?_
    obtain ⟨rr15, hrr15, hf⟩ := bind_s hf
    refine g0_cV (rm := (d + 0, d * 26 + 0)) (As := [.int v5, .int p2]) (rest := []) ⟨hx, hb, hml, hown, hts⟩ hG hR hS (ih_X14_isSo G K I J X A B Q o shM v5 p2 a_now a_night e_a_now e_a_night rr15 hrr15) (cwV 2 hts gi_X14_537 rfl rfl rfl hd_X14_isSo ⟨by dsimp only; omega, by dsimp only; omega⟩) shM.1 rfl rfl hl.1 (Nat.le_of_ble_eq_true rfl) dX14_isSo_84 ⟨Nat.le_refl _, Nat.le_refl _⟩ rfl (fun H locs hR hS => ?_)
    have hj104 : ∀ (_ : Unit), f14_isSo_j104 = some out → ∀ (H : Heap) (locs : List Loc) (ls : Array Slot), RS G K I J X A B Q H → va_S (gA G) s.heap H locs → lv_has ls 7 [(0, .ref o)] → W p l e ({ frames := (d + 1) + 0, cells := 0, slots := 0, locals := (d + 1) * 26 + 0 } : Room) s m args below meth c H locs 0 0 Z (F0 m 104 ls []) := by
      intro _ hf H locs ls hR hS hl
      unfold f14_isSo_j104 at hf
      refine lv_iconst (v := 0) hx hb dX14_isSo_104 li_0 ?_
      obtain rfl := some_i hf
      exact hend _ _ _ _ dX14_isSo_105 nz_0 hR hS
    refine lv_if_eq (tgt := 104) hx hb dX14_isSo_87 (by decide) (fun c16 => ?_) (fun c16 => ?_)
    · have hf := ite_t c16 hf
      exact hj104 () hf _ _ _ hR hS (lv_sub hl [3] rfl)
    · have hf := ite_f c16 hf
      refine lv_aload_n hx hb dX14_isSo_90 rfl (lv_at hl 3 rfl) ?_
      refine lv_iload hx hb dX14_isSo_91 (lv_at hl 0 rfl) ?_
      refine lv_iload_n hx hb dX14_isSo_93 rfl (lv_at hl 5 rfl) ?_
      obtain ⟨rr17, hrr17, hf⟩ := bind_s hf
      refine g0_cV (rm := (d + 0, d * 26 + 0)) (As := [.int v8, .int p2]) (rest := []) ⟨hx, hb, hml, hown, hts⟩ hG hR hS (ih_X14_isSo G K I J X A B Q o shM v8 p2 a_now a_night e_a_now e_a_night rr17 hrr17) (cwV 2 hts gi_X14_537 rfl rfl rfl hd_X14_isSo ⟨by dsimp only; omega, by dsimp only; omega⟩) shM.1 rfl rfl hl.1 (Nat.le_of_ble_eq_true rfl) dX14_isSo_94 ⟨Nat.le_refl _, Nat.le_refl _⟩ rfl (fun H locs hR hS => ?_)
      refine lv_if_eq (tgt := 104) hx hb dX14_isSo_97 (by decide) (fun c18 => ?_) (fun c18 => ?_)
      · have hf := ite_t c18 hf
        exact hj104 () hf _ _ _ hR hS (lv_sub hl [3] rfl)
      · have hf := ite_f c18 hf
        refine lv_iconst (v := 1) hx hb dX14_isSo_100 li_1 ?_
        refine lv_goto (tgt := 105) hx hb dX14_isSo_101 (by decide) ?_
        obtain rfl := some_i hf
        exact hend _ _ _ _ dX14_isSo_105 nz_1 hR hS
  have hf := ite_f c14 hf
  by_cases c19 : v10 = 3
  · have hf := ite_t c19 hf
    refine lv_tableIn (tgt := 106) hx hb dX14_isSo_34 (by rw [c19]; decide) (by rw [c19]; decide) (off := 72) (by rw [c19]; rfl) (by decide) ?_
    refine lv_aload_n hx hb dX14_isSo_106 rfl (lv_at hl 3 rfl) ?_
    refine lv_iload hx hb dX14_isSo_107 (lv_at hl 1 rfl) ?_
    refine lv_iload_n hx hb dX14_isSo_109 rfl (lv_at hl 5 rfl) ?_
    obtain ⟨rr20, hrr20, hf⟩ := bind_s hf
    refine g0_cV (rm := (d + 0, d * 26 + 0)) (As := [.int v5, .int p2]) (rest := []) ⟨hx, hb, hml, hown, hts⟩ hG hR hS (ih_X14_isSo G K I J X A B Q o shM v5 p2 a_now a_night e_a_now e_a_night rr20 hrr20) (cwV 2 hts gi_X14_537 rfl rfl rfl hd_X14_isSo ⟨by dsimp only; omega, by dsimp only; omega⟩) shM.1 rfl rfl hl.1 (Nat.le_of_ble_eq_true rfl) dX14_isSo_110 ⟨Nat.le_refl _, Nat.le_refl _⟩ rfl (fun H locs hR hS => ?_)
    have hj126 : ∀ (_ : Unit), f14_isSo_j126 = some out → ∀ (H : Heap) (locs : List Loc) (ls : Array Slot), RS G K I J X A B Q H → va_S (gA G) s.heap H locs → lv_has ls 7 [(0, .ref o)] → W p l e ({ frames := (d + 1) + 0, cells := 0, slots := 0, locals := (d + 1) * 26 + 0 } : Room) s m args below meth c H locs 0 0 Z (F0 m 126 ls []) := by
      intro _ hf H locs ls hR hS hl
      unfold f14_isSo_j126 at hf
      refine lv_iconst (v := 1) hx hb dX14_isSo_126 li_1 ?_
      refine lv_goto (tgt := 131) hx hb dX14_isSo_127 (by decide) ?_
      obtain rfl := some_i hf
      exact hend _ _ _ _ dX14_isSo_131 nz_1 hR hS
    refine lv_if_ne (tgt := 126) hx hb dX14_isSo_113 (by decide) (fun c21 => ?_) (fun c21 => ?_)
    · have hf := ite_f c21 hf
      exact hj126 () hf _ _ _ hR hS (lv_sub hl [3] rfl)
    · have hf := ite_t c21 hf
      refine lv_aload_n hx hb dX14_isSo_116 rfl (lv_at hl 3 rfl) ?_
      refine lv_iload hx hb dX14_isSo_117 (lv_at hl 0 rfl) ?_
      refine lv_iload_n hx hb dX14_isSo_119 rfl (lv_at hl 5 rfl) ?_
      obtain ⟨rr22, hrr22, hf⟩ := bind_s hf
      refine g0_cV (rm := (d + 0, d * 26 + 0)) (As := [.int v8, .int p2]) (rest := []) ⟨hx, hb, hml, hown, hts⟩ hG hR hS (ih_X14_isSo G K I J X A B Q o shM v8 p2 a_now a_night e_a_now e_a_night rr22 hrr22) (cwV 2 hts gi_X14_537 rfl rfl rfl hd_X14_isSo ⟨by dsimp only; omega, by dsimp only; omega⟩) shM.1 rfl rfl hl.1 (Nat.le_of_ble_eq_true rfl) dX14_isSo_120 ⟨Nat.le_refl _, Nat.le_refl _⟩ rfl (fun H locs hR hS => ?_)
      refine lv_if_eq (tgt := 130) hx hb dX14_isSo_123 (by decide) (fun c23 => ?_) (fun c23 => ?_)
      · have hf := ite_t c23 hf
        refine lv_iconst (v := 0) hx hb dX14_isSo_130 li_0 ?_
        obtain rfl := some_i hf
        exact hend _ _ _ _ dX14_isSo_131 nz_0 hR hS
      · have hf := ite_f c23 hf
        exact hj126 () hf _ _ _ hR hS (lv_sub hl [3] rfl)
  have hf := ite_f c19 hf
  by_cases c24 : v10 = 4
  · have hf := ite_t c24 hf
    refine lv_tableIn (tgt := 132) hx hb dX14_isSo_34 (by rw [c24]; decide) (by rw [c24]; decide) (off := 98) (by rw [c24]; rfl) (by decide) ?_
    refine lv_aload_n hx hb dX14_isSo_132 rfl (lv_at hl 3 rfl) ?_
    refine g_getr (b := (o + 43)) hx hb hts hown hG hR gFx_X14_142_11 shM.1 ((shM.2 42 _ rfl).2) dX14_isSo_133 ?_
    refine lv_iconst (v := 4) hx hb dX14_isSo_136 li_4 ?_
    refine lv_iload_n hx hb dX14_isSo_137 rfl (lv_at hl 5 rfl) ?_
    obtain ⟨v25, ev25, hf⟩ := lt_some hf
    refine n_imul hx hb ev25 dX14_isSo_138 ?_
    refine lv_iconst (v := 2) hx hb dX14_isSo_139 li_2 ?_
    obtain ⟨v26, ev26, hf⟩ := lt_some hf
    refine n_iadd hx hb ev26 dX14_isSo_140 ?_
    obtain ⟨c27, hf⟩ := gd_some hf
    obtain ⟨v28, ev28, hf⟩ := lt_some hf
    refine n_iald (x := a_night) hx hb hG hR k_a_night c27 e_a_night ev28 dX14_isSo_141 ?_
    refine lv_if_ne (tgt := 149) hx hb dX14_isSo_142 (by decide) (fun c29 => ?_) (fun c29 => ?_)
    · have hf := ite_f c29 hf
      refine lv_iconst (v := 0) hx hb dX14_isSo_149 li_0 ?_
      obtain rfl := some_i hf
      exact hend _ _ _ _ dX14_isSo_150 nz_0 hR hS
    · have hf := ite_t c29 hf
      refine lv_iconst (v := 1) hx hb dX14_isSo_145 li_1 ?_
      refine lv_goto (tgt := 150) hx hb dX14_isSo_146 (by decide) ?_
      obtain rfl := some_i hf
      exact hend _ _ _ _ dX14_isSo_150 nz_1 hR hS
  have hf := ite_f c24 hf
  have hto := tb_out_1_4 v10 c11 c14 c19 c24
  refine lv_tableOut (tgt := 151) hx hb dX14_isSo_34 hto (by decide) ?_
  refine lv_iload hx hb dX14_isSo_151 (lv_at hl 1 rfl) ?_
  have hj173 : ∀ (j173_s0 : Int32), f14_isSo_j173 a_now v2 v8 j173_s0 = some out → ∀ (H : Heap) (locs : List Loc) (ls : Array Slot), RS G K I J X A B Q H → va_S (gA G) s.heap H locs → lv_has ls 7 [(0, .ref o), (3, .int v2), (5, .int v8)] → W p l e ({ frames := (d + 1) + 0, cells := 0, slots := 0, locals := (d + 1) * 26 + 0 } : Room) s m args below meth c H locs 0 0 Z (F0 m 173 ls [.int j173_s0]) := by
    intro j173_s0 hf H locs ls hR hS hl
    unfold f14_isSo_j173 at hf
    refine lv_istore (lv' := [(6, .int j173_s0), (0, .ref o), (3, .int v2), (5, .int v8)]) hx hb dX14_isSo_173 hl (by decide) rfl (fun ls hl => ?_)
    refine lv_aload_n hx hb dX14_isSo_175 rfl (lv_at hl 1 rfl) ?_
    refine g_getr (b := (o + 2)) hx hb hts hown hG hR gFx_X14_13_11 shM.1 ((shM.2 1 _ rfl).2) dX14_isSo_176 ?_
    refine lv_iload_n hx hb dX14_isSo_179 rfl (lv_at hl 2 rfl) ?_
    refine lv_iconst (v := 3) hx hb dX14_isSo_180 li_3 ?_
    obtain ⟨v30, ev30, hf⟩ := lt_some hf
    refine n_iadd hx hb ev30 dX14_isSo_181 ?_
    obtain ⟨c31, hf⟩ := gd_some hf
    obtain ⟨v32, ev32, hf⟩ := lt_some hf
    refine n_iald (x := a_now) hx hb hG hR k_a_now c31 e_a_now ev32 dX14_isSo_182 ?_
    refine lv_bipush (v := 60) hx hb dX14_isSo_183 lb_60 ?_
    refine lv_icmp_ne (tgt := 203) hx hb dX14_isSo_185 (by decide) (fun c33 => ?_) (fun c33 => ?_)
    · have hf := ite_f c33 hf
      refine lv_aload_n hx hb dX14_isSo_203 rfl (lv_at hl 1 rfl) ?_
      refine g_getr (b := (o + 2)) hx hb hts hown hG hR gFx_X14_13_11 shM.1 ((shM.2 1 _ rfl).2) dX14_isSo_204 ?_
      refine lv_iload_n hx hb dX14_isSo_207 rfl (lv_at hl 2 rfl) ?_
      refine lv_iconst (v := 3) hx hb dX14_isSo_208 li_3 ?_
      obtain ⟨v34, ev34, hf⟩ := lt_some hf
      refine n_iadd hx hb ev34 dX14_isSo_209 ?_
      obtain ⟨c35, hf⟩ := gd_some hf
      obtain ⟨v36, ev36, hf⟩ := lt_some hf
      refine n_iald (x := a_now) hx hb hG hR k_a_now c35 e_a_now ev36 dX14_isSo_210 ?_
      refine lv_bipush (v := 61) hx hb dX14_isSo_211 lb_61 ?_
      refine lv_icmp_ne (tgt := 231) hx hb dX14_isSo_213 (by decide) (fun c37 => ?_) (fun c37 => ?_)
      · have hf := ite_f c37 hf
        refine lv_iload hx hb dX14_isSo_231 (lv_at hl 0 rfl) ?_
        refine lv_iload hx hb dX14_isSo_233 (lv_at hl 3 rfl) ?_
        refine lv_icmp_le (tgt := 242) hx hb dX14_isSo_235 (by decide) (fun c38 => ?_) (fun c38 => ?_)
        · have hf := ite_t c38 hf
          refine lv_iconst (v := 0) hx hb dX14_isSo_242 li_0 ?_
          obtain rfl := some_i hf
          exact hend _ _ _ _ dX14_isSo_243 nz_0 hR hS
        · have hf := ite_f c38 hf
          refine lv_iconst (v := 1) hx hb dX14_isSo_238 li_1 ?_
          refine lv_goto (tgt := 243) hx hb dX14_isSo_239 (by decide) ?_
          obtain rfl := some_i hf
          exact hend _ _ _ _ dX14_isSo_243 nz_1 hR hS
      · have hf := ite_t c37 hf
        refine lv_iload hx hb dX14_isSo_216 (lv_at hl 0 rfl) ?_
        refine lv_iload hx hb dX14_isSo_218 (lv_at hl 3 rfl) ?_
        refine lv_icmp_ne (tgt := 227) hx hb dX14_isSo_220 (by decide) (fun c39 => ?_) (fun c39 => ?_)
        · have hf := ite_f c39 hf
          refine lv_iconst (v := 0) hx hb dX14_isSo_227 li_0 ?_
          refine lv_goto (tgt := 243) hx hb dX14_isSo_228 (by decide) ?_
          obtain rfl := some_i hf
          exact hend _ _ _ _ dX14_isSo_243 nz_0 hR hS
        · have hf := ite_t c39 hf
          refine lv_iconst (v := 1) hx hb dX14_isSo_223 li_1 ?_
          refine lv_goto (tgt := 243) hx hb dX14_isSo_224 (by decide) ?_
          obtain rfl := some_i hf
          exact hend _ _ _ _ dX14_isSo_243 nz_1 hR hS
    · have hf := ite_t c33 hf
      refine lv_iload hx hb dX14_isSo_188 (lv_at hl 0 rfl) ?_
      refine lv_iload hx hb dX14_isSo_190 (lv_at hl 3 rfl) ?_
      refine lv_icmp_ge (tgt := 199) hx hb dX14_isSo_192 (by decide) (fun c40 => ?_) (fun c40 => ?_)
      · have hf := ite_t c40 hf
        refine lv_iconst (v := 0) hx hb dX14_isSo_199 li_0 ?_
        refine lv_goto (tgt := 243) hx hb dX14_isSo_200 (by decide) ?_
        obtain rfl := some_i hf
        exact hend _ _ _ _ dX14_isSo_243 nz_0 hR hS
      · have hf := ite_f c40 hf
        refine lv_iconst (v := 1) hx hb dX14_isSo_195 li_1 ?_
        refine lv_goto (tgt := 243) hx hb dX14_isSo_196 (by decide) ?_
        obtain rfl := some_i hf
        exact hend _ _ _ _ dX14_isSo_243 nz_1 hR hS
  refine lv_if_ne (tgt := 160) hx hb dX14_isSo_153 (by decide) (fun c41 => ?_) (fun c41 => ?_)
  · have hf := ite_f c41 hf
    refine lv_aload_n hx hb dX14_isSo_160 rfl (lv_at hl 3 rfl) ?_
    refine g_getr (b := (o + 43)) hx hb hts hown hG hR gFx_X14_142_11 shM.1 ((shM.2 42 _ rfl).2) dX14_isSo_161 ?_
    refine lv_iconst (v := 4) hx hb dX14_isSo_164 li_4 ?_
    refine lv_iload_n hx hb dX14_isSo_165 rfl (lv_at hl 5 rfl) ?_
    obtain ⟨v42, ev42, hf⟩ := lt_some hf
    refine n_imul hx hb ev42 dX14_isSo_166 ?_
    refine lv_iload hx hb dX14_isSo_167 (lv_at hl 1 rfl) ?_
    obtain ⟨v43, ev43, hf⟩ := lt_some hf
    refine n_iadd hx hb ev43 dX14_isSo_169 ?_
    refine lv_iconst (v := 1) hx hb dX14_isSo_170 li_1 ?_
    obtain ⟨v44, ev44, hf⟩ := lt_some hf
    refine n_isub hx hb ev44 dX14_isSo_171 ?_
    obtain ⟨c45, hf⟩ := gd_some hf
    obtain ⟨v46, ev46, hf⟩ := lt_some hf
    refine n_iald (x := a_night) hx hb hG hR k_a_night c45 e_a_night ev46 dX14_isSo_172 ?_
    exact hj173 v46 hf _ _ _ hR hS (lv_sub hl [3, 2, 0] rfl)
  · have hf := ite_t c41 hf
    refine lv_iload_n hx hb dX14_isSo_156 rfl (lv_at hl 5 rfl) ?_
    refine lv_goto (tgt := 173) hx hb dX14_isSo_157 (by decide) ?_
    exact hj173 p2 hf _ _ _ hR hS (lv_sub hl [3, 2, 0] rfl)
theorem f14_isSo_z : f14_isSo 0 = fun _ _ _ _ => none := rfl
theorem f14_isSo_s (d : Nat) : f14_isSo (d + 1) = fb14_isSo (f14_isSo d) := rfl
theorem mG_X14_isSo (l : Launch) : ∀ d : Nat, (∀ (G : gG) (K : gK) (I : gI) (J : gJ) (X : gX) (A : gI) (B : gJ) (Q : gX) (o : Nat) (shM : Sh K X o 11 rows11) (p1 : Int32) (p2 : Int32) (a_now : Nat → Int32) (a_night : Nat → Int32) (e_a_now : A (o + 2) = a_now) (e_a_night : A (o + 43) = a_night) (out : Int32) (hf : f14_isSo d p1 p2 a_now a_night = some out), GMet l yX14_isSo cX14_isSo 7 (some .boolean) (d + 0) (d * 26 + 0) G [.ref o, .int p1, .int p2] K I J X A B Q (some (.int out)) K I J X A B Q 0 0) := by
  intro d
  induction d with
  | zero =>
    exact (by intro G K I J X A B Q o shM p1 p2 a_now a_night e_a_now e_a_night out hf; rw [f14_isSo_z] at hf; cases hf)
  | succ d ih =>
    exact (by intro G K I J X A B Q o shM p1 p2 a_now a_night e_a_now e_a_night out hf; rw [f14_isSo_s] at hf; exact w14_isSo l d (f14_isSo d) ih G K I J X A B Q o shM p1 p2 a_now a_night e_a_now e_a_night out hf)
theorem m14_isSo (l : Launch) (d : Nat) : ∀ (G : gG) (K : gK) (I : gI) (J : gJ) (X : gX) (A : gI) (B : gJ) (Q : gX) (o : Nat) (shM : Sh K X o 11 rows11) (p1 : Int32) (p2 : Int32) (a_now : Nat → Int32) (a_night : Nat → Int32) (e_a_now : A (o + 2) = a_now) (e_a_night : A (o + 43) = a_night) (out : Int32) (hf : f14_isSo d p1 p2 a_now a_night = some out), GMet l yX14_isSo cX14_isSo 7 (some .boolean) (d + 0) (d * 26 + 0) G [.ref o, .int p1, .int p2] K I J X A B Q (some (.int out)) K I J X A B Q 0 0 := (mG_X14_isSo l d)
noncomputable def f14_said_e7_0 (p1 : Int32) (rr6 : Int32 × Int32 × Int32 × Int32 × Int32 × Int32 × Int32 × Int32 × Int32 × Int32 × Int32 × Int32 × (Nat → Int32) × (Nat → Int32) × (Nat → Int32) × (Nat → Int32) × (Nat → Int32) × (Nat → Int32) × (Nat → Int32) × (Nat → Int32) × (Nat → Int32) × (Nat → Int32) × (Nat → Int32) × (Nat → Int32) × (Nat → Int32) × (Nat → Int32) × (Nat → Int32)) (x7_0 : Int32) : Option (Int32 × Int32 × Int32 × Int32 × Int32 × Int32 × Int32 × Int32 × Int32 × Int32 × Int32 × Int32 × Int32 × Int32 × (Nat → Int32) × (Nat → Int32) × (Nat → Int32) × (Nat → Int32) × (Nat → Int32) × (Nat → Int32) × (Nat → Int32) × (Nat → Int32) × (Nat → Int32) × (Nat → Int32) × (Nat → Int32) × (Nat → Int32) × (Nat → Int32) × (Nat → Int32) × (Nat → Int32)) :=
  if p1 = (-1 : Int32) then
    some (x7_0, (0 : Int32), rr6.1, rr6.2.1, rr6.2.2.1, rr6.2.2.2.1, rr6.2.2.2.2.1, rr6.2.2.2.2.2.1, rr6.2.2.2.2.2.2.1, rr6.2.2.2.2.2.2.2.1, rr6.2.2.2.2.2.2.2.2.1, rr6.2.2.2.2.2.2.2.2.2.1, rr6.2.2.2.2.2.2.2.2.2.2.1, rr6.2.2.2.2.2.2.2.2.2.2.2.1, rr6.2.2.2.2.2.2.2.2.2.2.2.2.1, rr6.2.2.2.2.2.2.2.2.2.2.2.2.2.1, rr6.2.2.2.2.2.2.2.2.2.2.2.2.2.2.1, rr6.2.2.2.2.2.2.2.2.2.2.2.2.2.2.2.1, rr6.2.2.2.2.2.2.2.2.2.2.2.2.2.2.2.2.1, rr6.2.2.2.2.2.2.2.2.2.2.2.2.2.2.2.2.2.1, rr6.2.2.2.2.2.2.2.2.2.2.2.2.2.2.2.2.2.2.1, rr6.2.2.2.2.2.2.2.2.2.2.2.2.2.2.2.2.2.2.2.1, rr6.2.2.2.2.2.2.2.2.2.2.2.2.2.2.2.2.2.2.2.2.1, rr6.2.2.2.2.2.2.2.2.2.2.2.2.2.2.2.2.2.2.2.2.2.1, rr6.2.2.2.2.2.2.2.2.2.2.2.2.2.2.2.2.2.2.2.2.2.2.1, rr6.2.2.2.2.2.2.2.2.2.2.2.2.2.2.2.2.2.2.2.2.2.2.2.1, rr6.2.2.2.2.2.2.2.2.2.2.2.2.2.2.2.2.2.2.2.2.2.2.2.2.1, rr6.2.2.2.2.2.2.2.2.2.2.2.2.2.2.2.2.2.2.2.2.2.2.2.2.2.1, rr6.2.2.2.2.2.2.2.2.2.2.2.2.2.2.2.2.2.2.2.2.2.2.2.2.2.2)
  else
    some ((-1 : Int32), (0 : Int32), rr6.1, rr6.2.1, rr6.2.2.1, rr6.2.2.2.1, rr6.2.2.2.2.1, rr6.2.2.2.2.2.1, rr6.2.2.2.2.2.2.1, rr6.2.2.2.2.2.2.2.1, rr6.2.2.2.2.2.2.2.2.1, rr6.2.2.2.2.2.2.2.2.2.1, rr6.2.2.2.2.2.2.2.2.2.2.1, rr6.2.2.2.2.2.2.2.2.2.2.2.1, rr6.2.2.2.2.2.2.2.2.2.2.2.2.1, rr6.2.2.2.2.2.2.2.2.2.2.2.2.2.1, rr6.2.2.2.2.2.2.2.2.2.2.2.2.2.2.1, rr6.2.2.2.2.2.2.2.2.2.2.2.2.2.2.2.1, rr6.2.2.2.2.2.2.2.2.2.2.2.2.2.2.2.2.1, rr6.2.2.2.2.2.2.2.2.2.2.2.2.2.2.2.2.2.1, rr6.2.2.2.2.2.2.2.2.2.2.2.2.2.2.2.2.2.2.1, rr6.2.2.2.2.2.2.2.2.2.2.2.2.2.2.2.2.2.2.2.1, rr6.2.2.2.2.2.2.2.2.2.2.2.2.2.2.2.2.2.2.2.2.1, rr6.2.2.2.2.2.2.2.2.2.2.2.2.2.2.2.2.2.2.2.2.2.1, rr6.2.2.2.2.2.2.2.2.2.2.2.2.2.2.2.2.2.2.2.2.2.2.1, rr6.2.2.2.2.2.2.2.2.2.2.2.2.2.2.2.2.2.2.2.2.2.2.2.1, rr6.2.2.2.2.2.2.2.2.2.2.2.2.2.2.2.2.2.2.2.2.2.2.2.2.1, rr6.2.2.2.2.2.2.2.2.2.2.2.2.2.2.2.2.2.2.2.2.2.2.2.2.2.1, rr6.2.2.2.2.2.2.2.2.2.2.2.2.2.2.2.2.2.2.2.2.2.2.2.2.2.2)

noncomputable def f14_said_e7_1 (rr6 : Int32 × Int32 × Int32 × Int32 × Int32 × Int32 × Int32 × Int32 × Int32 × Int32 × Int32 × Int32 × (Nat → Int32) × (Nat → Int32) × (Nat → Int32) × (Nat → Int32) × (Nat → Int32) × (Nat → Int32) × (Nat → Int32) × (Nat → Int32) × (Nat → Int32) × (Nat → Int32) × (Nat → Int32) × (Nat → Int32) × (Nat → Int32) × (Nat → Int32) × (Nat → Int32)) (x7_1 : Int32) : Option (Int32 × Int32 × Int32 × Int32 × Int32 × Int32 × Int32 × Int32 × Int32 × Int32 × Int32 × Int32 × Int32 × Int32 × (Nat → Int32) × (Nat → Int32) × (Nat → Int32) × (Nat → Int32) × (Nat → Int32) × (Nat → Int32) × (Nat → Int32) × (Nat → Int32) × (Nat → Int32) × (Nat → Int32) × (Nat → Int32) × (Nat → Int32) × (Nat → Int32) × (Nat → Int32) × (Nat → Int32)) :=
  some (x7_1, (0 : Int32), rr6.1, rr6.2.1, rr6.2.2.1, rr6.2.2.2.1, rr6.2.2.2.2.1, rr6.2.2.2.2.2.1, rr6.2.2.2.2.2.2.1, rr6.2.2.2.2.2.2.2.1, rr6.2.2.2.2.2.2.2.2.1, rr6.2.2.2.2.2.2.2.2.2.1, rr6.2.2.2.2.2.2.2.2.2.2.1, rr6.2.2.2.2.2.2.2.2.2.2.2.1, rr6.2.2.2.2.2.2.2.2.2.2.2.2.1, rr6.2.2.2.2.2.2.2.2.2.2.2.2.2.1, rr6.2.2.2.2.2.2.2.2.2.2.2.2.2.2.1, rr6.2.2.2.2.2.2.2.2.2.2.2.2.2.2.2.1, rr6.2.2.2.2.2.2.2.2.2.2.2.2.2.2.2.2.1, rr6.2.2.2.2.2.2.2.2.2.2.2.2.2.2.2.2.2.1, rr6.2.2.2.2.2.2.2.2.2.2.2.2.2.2.2.2.2.2.1, rr6.2.2.2.2.2.2.2.2.2.2.2.2.2.2.2.2.2.2.2.1, rr6.2.2.2.2.2.2.2.2.2.2.2.2.2.2.2.2.2.2.2.2.1, rr6.2.2.2.2.2.2.2.2.2.2.2.2.2.2.2.2.2.2.2.2.2.1, rr6.2.2.2.2.2.2.2.2.2.2.2.2.2.2.2.2.2.2.2.2.2.2.1, rr6.2.2.2.2.2.2.2.2.2.2.2.2.2.2.2.2.2.2.2.2.2.2.2.1, rr6.2.2.2.2.2.2.2.2.2.2.2.2.2.2.2.2.2.2.2.2.2.2.2.2.1, rr6.2.2.2.2.2.2.2.2.2.2.2.2.2.2.2.2.2.2.2.2.2.2.2.2.2.1, rr6.2.2.2.2.2.2.2.2.2.2.2.2.2.2.2.2.2.2.2.2.2.2.2.2.2.2)

noncomputable def f14_said_j70 (w7_3 : Int32) (j70_2 : Int32) : Option ((Int32 × Int32) ⊕ ((Int32) ⊕ (Int32))) :=
  lt (w7_3 + (1 : Int32)) fun v13 =>
  some (.inl (j70_2, v13))

noncomputable def f14_said_s7 (p1 : Int32) (rr6 : Int32 × Int32 × Int32 × Int32 × Int32 × Int32 × Int32 × Int32 × Int32 × Int32 × Int32 × Int32 × (Nat → Int32) × (Nat → Int32) × (Nat → Int32) × (Nat → Int32) × (Nat → Int32) × (Nat → Int32) × (Nat → Int32) × (Nat → Int32) × (Nat → Int32) × (Nat → Int32) × (Nat → Int32) × (Nat → Int32) × (Nat → Int32) × (Nat → Int32) × (Nat → Int32)) (w7_2 : Int32) (w7_3 : Int32) : Option ((Int32 × Int32) ⊕ ((Int32) ⊕ (Int32))) :=
  if (60 : Int32) ≤ w7_3 then
    some (.inr (.inl w7_2))
  else
    gd (inb (541 : Int32) 800) <|
    lt (rr6.2.2.2.2.2.2.2.2.2.2.2.2.1 (541 : Int32).toNatClampNeg) fun v11 =>
    (f14_isSo 50 v11 w7_3 rr6.2.2.2.2.2.2.2.2.2.2.2.2.1 rr6.2.2.2.2.2.2.2.2.2.2.2.2.2.2.2.2.2.2.2.2.2.2.2.2.2.2).bind fun rr12 =>
    if rr12 = 0 then
      f14_said_j70 w7_3 w7_2
    else
      if w7_2 = p1 then
        some (.inr (.inr w7_3))
      else
        lt (w7_2 + (1 : Int32)) fun v16 =>
        f14_said_j70 w7_3 v16

noncomputable def f14_said (p1 : Int32) (i_thrown : Int32) (i_isBegun : Int32) (i_teamMany : Int32) (i_teamKind : Int32) (i_well : Int32) (i_tick : Int32) (i_empty : Int32) (i_away : Int32) (i_litresThrown : Int32) (i_spilt : Int32) (i_pailsThrown : Int32) (i_drawn : Int32) (i_lost : Int32) (a_now : Nat → Int32) (a_team : Nat → Int32) (a_rest : Nat → Int32) (a_load : Nat → Int32) (a_done : Nat → Int32) (a_queue : Nat → Int32) (a_waits : Nat → Int32) (a_most : Nat → Int32) (a_comes : Nat → Int32) (a_state : Nat → Int32) (a_fuel : Nat → Int32) (a_burn : Nat → Int32) (a_wet : Nat → Int32) (a_heat : Nat → Int32) (a_night : Nat → Int32) : Option (Int32 × Int32 × Int32 × Int32 × Int32 × Int32 × Int32 × Int32 × Int32 × Int32 × Int32 × Int32 × Int32 × Int32 × (Nat → Int32) × (Nat → Int32) × (Nat → Int32) × (Nat → Int32) × (Nat → Int32) × (Nat → Int32) × (Nat → Int32) × (Nat → Int32) × (Nat → Int32) × (Nat → Int32) × (Nat → Int32) × (Nat → Int32) × (Nat → Int32) × (Nat → Int32) × (Nat → Int32)) :=
  (f14_lay i_isBegun a_now).bind fun rr1 =>
  gd (inb (540 : Int32) 800) <|
  lt (rr1.2 (540 : Int32).toNatClampNeg) fun v3 =>
  if v3 = 0 then
    some ((-1 : Int32), (0 : Int32), rr1.1, i_teamMany, i_teamKind, i_well, i_tick, i_empty, i_away, i_litresThrown, i_spilt, i_pailsThrown, i_drawn, i_lost, rr1.2, a_team, a_rest, a_load, a_done, a_queue, a_waits, a_most, a_comes, a_state, a_fuel, a_burn, a_wet, a_heat, a_night)
  else
    if (-1 : Int32) ≤ p1 then
      (f14_spend rr1.1 i_teamMany i_teamKind i_well i_tick i_empty i_away i_litresThrown i_spilt i_pailsThrown i_drawn i_lost rr1.2 a_team a_rest a_load a_done a_queue a_waits a_most a_comes a_state a_fuel a_burn a_wet a_heat a_night).bind fun rr6 =>
      (whl (fun (s7 : Int32 × Int32) => f14_said_s7 p1 rr6 s7.1 s7.2) FU ((0 : Int32), (0 : Int32))).bind fun rl7 =>
      Sum.elim (f14_said_e7_0 p1 rr6) (f14_said_e7_1 rr6) rl7
    else
      some ((-1 : Int32), (0 : Int32), rr1.1, i_teamMany, i_teamKind, i_well, i_tick, i_empty, i_away, i_litresThrown, i_spilt, i_pailsThrown, i_drawn, i_lost, rr1.2, a_team, a_rest, a_load, a_done, a_queue, a_waits, a_most, a_comes, a_state, a_fuel, a_burn, a_wet, a_heat, a_night)
set_option maxHeartbeats 4000000 in
theorem m14_said (l : Launch) (G : gG) (K : gK) (I : gI) (J : gJ) (X : gX) (A : gI) (B : gJ) (Q : gX) (o : Nat) (shM : Sh K X o 11 rows11) (p1 : Int32) (i_thrown : Int32) (i_isBegun : Int32) (i_teamMany : Int32) (i_teamKind : Int32) (i_well : Int32) (i_tick : Int32) (i_empty : Int32) (i_away : Int32) (i_litresThrown : Int32) (i_spilt : Int32) (i_pailsThrown : Int32) (i_drawn : Int32) (i_lost : Int32) (a_now : Nat → Int32) (a_team : Nat → Int32) (a_rest : Nat → Int32) (a_load : Nat → Int32) (a_done : Nat → Int32) (a_queue : Nat → Int32) (a_waits : Nat → Int32) (a_most : Nat → Int32) (a_comes : Nat → Int32) (a_state : Nat → Int32) (a_fuel : Nat → Int32) (a_burn : Nat → Int32) (a_wet : Nat → Int32) (a_heat : Nat → Int32) (a_night : Nat → Int32) (e_i_thrown : I 1100 o = i_thrown) (e_i_isBegun : I 1122 o = i_isBegun) (e_i_teamMany : I 1133 o = i_teamMany) (e_i_teamKind : I 1134 o = i_teamKind) (e_i_well : I 1135 o = i_well) (e_i_tick : I 1136 o = i_tick) (e_i_empty : I 1137 o = i_empty) (e_i_away : I 1138 o = i_away) (e_i_litresThrown : I 1139 o = i_litresThrown) (e_i_spilt : I 1140 o = i_spilt) (e_i_pailsThrown : I 1141 o = i_pailsThrown) (e_i_drawn : I 1142 o = i_drawn) (e_i_lost : I 1170 o = i_lost) (e_a_now : A (o + 2) = a_now) (e_a_team : A (o + 10) = a_team) (e_a_rest : A (o + 11) = a_rest) (e_a_load : A (o + 12) = a_load) (e_a_done : A (o + 13) = a_done) (e_a_queue : A (o + 14) = a_queue) (e_a_waits : A (o + 15) = a_waits) (e_a_most : A (o + 16) = a_most) (e_a_comes : A (o + 17) = a_comes) (e_a_state : A (o + 18) = a_state) (e_a_fuel : A (o + 32) = a_fuel) (e_a_burn : A (o + 33) = a_burn) (e_a_wet : A (o + 34) = a_wet) (e_a_heat : A (o + 35) = a_heat) (e_a_night : A (o + 43) = a_night) (out : Int32 × Int32 × Int32 × Int32 × Int32 × Int32 × Int32 × Int32 × Int32 × Int32 × Int32 × Int32 × Int32 × Int32 × (Nat → Int32) × (Nat → Int32) × (Nat → Int32) × (Nat → Int32) × (Nat → Int32) × (Nat → Int32) × (Nat → Int32) × (Nat → Int32) × (Nat → Int32) × (Nat → Int32) × (Nat → Int32) × (Nat → Int32) × (Nat → Int32) × (Nat → Int32) × (Nat → Int32)) (hf : f14_said p1 i_thrown i_isBegun i_teamMany i_teamKind i_well i_tick i_empty i_away i_litresThrown i_spilt i_pailsThrown i_drawn i_lost a_now a_team a_rest a_load a_done a_queue a_waits a_most a_comes a_state a_fuel a_burn a_wet a_heat a_night = some out) : GMet l yX14_said cX14_said 4 (some .int) (51) (1326) G [.ref o, .int p1] K I J X A B Q (some (.int out.1)) K (ov I [(1100, o, out.2.1), (1122, o, out.2.2.1), (1133, o, out.2.2.2.1), (1134, o, out.2.2.2.2.1), (1135, o, out.2.2.2.2.2.1), (1136, o, out.2.2.2.2.2.2.1), (1137, o, out.2.2.2.2.2.2.2.1), (1138, o, out.2.2.2.2.2.2.2.2.1), (1139, o, out.2.2.2.2.2.2.2.2.2.1), (1140, o, out.2.2.2.2.2.2.2.2.2.2.1), (1141, o, out.2.2.2.2.2.2.2.2.2.2.2.1), (1142, o, out.2.2.2.2.2.2.2.2.2.2.2.2.1), (1170, o, out.2.2.2.2.2.2.2.2.2.2.2.2.2.1)]) J X (ova A [((o + 2), out.2.2.2.2.2.2.2.2.2.2.2.2.2.2.1), ((o + 10), out.2.2.2.2.2.2.2.2.2.2.2.2.2.2.2.1), ((o + 11), out.2.2.2.2.2.2.2.2.2.2.2.2.2.2.2.2.1), ((o + 12), out.2.2.2.2.2.2.2.2.2.2.2.2.2.2.2.2.2.1), ((o + 13), out.2.2.2.2.2.2.2.2.2.2.2.2.2.2.2.2.2.2.1), ((o + 14), out.2.2.2.2.2.2.2.2.2.2.2.2.2.2.2.2.2.2.2.1), ((o + 15), out.2.2.2.2.2.2.2.2.2.2.2.2.2.2.2.2.2.2.2.2.1), ((o + 16), out.2.2.2.2.2.2.2.2.2.2.2.2.2.2.2.2.2.2.2.2.2.1), ((o + 17), out.2.2.2.2.2.2.2.2.2.2.2.2.2.2.2.2.2.2.2.2.2.2.1), ((o + 18), out.2.2.2.2.2.2.2.2.2.2.2.2.2.2.2.2.2.2.2.2.2.2.2.1), ((o + 32), out.2.2.2.2.2.2.2.2.2.2.2.2.2.2.2.2.2.2.2.2.2.2.2.2.1), ((o + 33), out.2.2.2.2.2.2.2.2.2.2.2.2.2.2.2.2.2.2.2.2.2.2.2.2.2.1), ((o + 34), out.2.2.2.2.2.2.2.2.2.2.2.2.2.2.2.2.2.2.2.2.2.2.2.2.2.2.1), ((o + 35), out.2.2.2.2.2.2.2.2.2.2.2.2.2.2.2.2.2.2.2.2.2.2.2.2.2.2.2.1), ((o + 43), out.2.2.2.2.2.2.2.2.2.2.2.2.2.2.2.2.2.2.2.2.2.2.2.2.2.2.2.2)]) B Q 0 0 := by
  refine GMet.of (y := yX14_said) rfl (Nat.le_of_ble_eq_true rfl) rfl ?_
  intro p e s m below meth c ls hx hb hr hml hlocks hts hown hname hG hR hl
  have hown : s.vm.findClass RX14 = some m.cls := hown
  have k_a_now : K (o + 2) = some (.inr (0, 800)) := (shM.2 1 _ rfl).1
  have k_a_team : K (o + 10) = some (.inr (0, 12)) := (shM.2 9 _ rfl).1
  have k_a_rest : K (o + 11) = some (.inr (0, 12)) := (shM.2 10 _ rfl).1
  have k_a_load : K (o + 12) = some (.inr (0, 12)) := (shM.2 11 _ rfl).1
  have k_a_done : K (o + 13) = some (.inr (0, 12)) := (shM.2 12 _ rfl).1
  have k_a_queue : K (o + 14) = some (.inr (0, 360)) := (shM.2 13 _ rfl).1
  have k_a_waits : K (o + 15) = some (.inr (0, 12)) := (shM.2 14 _ rfl).1
  have k_a_most : K (o + 16) = some (.inr (0, 12)) := (shM.2 15 _ rfl).1
  have k_a_comes : K (o + 17) = some (.inr (0, 30)) := (shM.2 16 _ rfl).1
  have k_a_state : K (o + 18) = some (.inr (0, 12)) := (shM.2 17 _ rfl).1
  have k_a_fuel : K (o + 32) = some (.inr (0, 64)) := (shM.2 31 _ rfl).1
  have k_a_burn : K (o + 33) = some (.inr (0, 64)) := (shM.2 32 _ rfl).1
  have k_a_wet : K (o + 34) = some (.inr (0, 64)) := (shM.2 33 _ rfl).1
  have k_a_heat : K (o + 35) = some (.inr (0, 64)) := (shM.2 34 _ rfl).1
  have k_a_night : K (o + 43) = some (.inr (0, 240)) := (shM.2 42 _ rfl).1
  have hN_A : nda [(o + 2), (o + 10), (o + 11), (o + 12), (o + 13), (o + 14), (o + 15), (o + 16), (o + 17), (o + 18), (o + 32), (o + 33), (o + 34), (o + 35), (o + 43)] := nd_off o [2, 10, 11, 12, 13, 14, 15, 16, 17, 18, 32, 33, 34, 35, 43] rfl
  have hR : RS G K (ov I [(1100, o, i_thrown), (1122, o, i_isBegun), (1133, o, i_teamMany), (1134, o, i_teamKind), (1135, o, i_well), (1136, o, i_tick), (1137, o, i_empty), (1138, o, i_away), (1139, o, i_litresThrown), (1140, o, i_spilt), (1141, o, i_pailsThrown), (1142, o, i_drawn), (1170, o, i_lost)]) J X (ova A [((o + 2), a_now), ((o + 10), a_team), ((o + 11), a_rest), ((o + 12), a_load), ((o + 13), a_done), ((o + 14), a_queue), ((o + 15), a_waits), ((o + 16), a_most), ((o + 17), a_comes), ((o + 18), a_state), ((o + 32), a_fuel), ((o + 33), a_burn), ((o + 34), a_wet), ((o + 35), a_heat), ((o + 43), a_night)]) B Q s.heap := hR.to (Eq.symm (ov_sc e_i_thrown (ov_sc e_i_isBegun (ov_sc e_i_teamMany (ov_sc e_i_teamKind (ov_sc e_i_well (ov_sc e_i_tick (ov_sc e_i_empty (ov_sc e_i_away (ov_sc e_i_litresThrown (ov_sc e_i_spilt (ov_sc e_i_pailsThrown (ov_sc e_i_drawn (ov_sc e_i_lost rfl)))))))))))))) rfl rfl (Eq.symm (ova_sc e_a_now (ova_sc e_a_team (ova_sc e_a_rest (ova_sc e_a_load (ova_sc e_a_done (ova_sc e_a_queue (ova_sc e_a_waits (ova_sc e_a_most (ova_sc e_a_comes (ova_sc e_a_state (ova_sc e_a_fuel (ova_sc e_a_burn (ova_sc e_a_wet (ova_sc e_a_heat (ova_sc e_a_night rfl)))))))))))))))) rfl rfl
  have hS : va_S (gA G) s.heap s.heap [] := va_S.rf
  have hend : ∀ (pc : Nat) (H : Heap) (locs : List Loc) (ls : Array Slot), decode cX14_said pc = .ok (.ireturn, 1) → RS G K (ov I [(1100, o, out.2.1), (1122, o, out.2.2.1), (1133, o, out.2.2.2.1), (1134, o, out.2.2.2.2.1), (1135, o, out.2.2.2.2.2.1), (1136, o, out.2.2.2.2.2.2.1), (1137, o, out.2.2.2.2.2.2.2.1), (1138, o, out.2.2.2.2.2.2.2.2.1), (1139, o, out.2.2.2.2.2.2.2.2.2.1), (1140, o, out.2.2.2.2.2.2.2.2.2.2.1), (1141, o, out.2.2.2.2.2.2.2.2.2.2.2.1), (1142, o, out.2.2.2.2.2.2.2.2.2.2.2.2.1), (1170, o, out.2.2.2.2.2.2.2.2.2.2.2.2.2.1)]) J X (ova A [((o + 2), out.2.2.2.2.2.2.2.2.2.2.2.2.2.2.1), ((o + 10), out.2.2.2.2.2.2.2.2.2.2.2.2.2.2.2.1), ((o + 11), out.2.2.2.2.2.2.2.2.2.2.2.2.2.2.2.2.1), ((o + 12), out.2.2.2.2.2.2.2.2.2.2.2.2.2.2.2.2.2.1), ((o + 13), out.2.2.2.2.2.2.2.2.2.2.2.2.2.2.2.2.2.2.1), ((o + 14), out.2.2.2.2.2.2.2.2.2.2.2.2.2.2.2.2.2.2.2.1), ((o + 15), out.2.2.2.2.2.2.2.2.2.2.2.2.2.2.2.2.2.2.2.2.1), ((o + 16), out.2.2.2.2.2.2.2.2.2.2.2.2.2.2.2.2.2.2.2.2.2.1), ((o + 17), out.2.2.2.2.2.2.2.2.2.2.2.2.2.2.2.2.2.2.2.2.2.2.1), ((o + 18), out.2.2.2.2.2.2.2.2.2.2.2.2.2.2.2.2.2.2.2.2.2.2.2.1), ((o + 32), out.2.2.2.2.2.2.2.2.2.2.2.2.2.2.2.2.2.2.2.2.2.2.2.2.1), ((o + 33), out.2.2.2.2.2.2.2.2.2.2.2.2.2.2.2.2.2.2.2.2.2.2.2.2.2.1), ((o + 34), out.2.2.2.2.2.2.2.2.2.2.2.2.2.2.2.2.2.2.2.2.2.2.2.2.2.2.1), ((o + 35), out.2.2.2.2.2.2.2.2.2.2.2.2.2.2.2.2.2.2.2.2.2.2.2.2.2.2.2.1), ((o + 43), out.2.2.2.2.2.2.2.2.2.2.2.2.2.2.2.2.2.2.2.2.2.2.2.2.2.2.2.2)]) B Q H → va_S (gA G) s.heap H locs → W p l e ({ frames := 51, cells := 0, slots := 0, locals := 1326 } : Room) s m ([.ref o, .int p1] : List Value).toArray below meth c H locs 0 0 (MQ below (gQ G (some (.int out.1)) K (ov I [(1100, o, out.2.1), (1122, o, out.2.2.1), (1133, o, out.2.2.2.1), (1134, o, out.2.2.2.2.1), (1135, o, out.2.2.2.2.2.1), (1136, o, out.2.2.2.2.2.2.1), (1137, o, out.2.2.2.2.2.2.2.1), (1138, o, out.2.2.2.2.2.2.2.2.1), (1139, o, out.2.2.2.2.2.2.2.2.2.1), (1140, o, out.2.2.2.2.2.2.2.2.2.2.1), (1141, o, out.2.2.2.2.2.2.2.2.2.2.2.1), (1142, o, out.2.2.2.2.2.2.2.2.2.2.2.2.1), (1170, o, out.2.2.2.2.2.2.2.2.2.2.2.2.2.1)]) J X (ova A [((o + 2), out.2.2.2.2.2.2.2.2.2.2.2.2.2.2.1), ((o + 10), out.2.2.2.2.2.2.2.2.2.2.2.2.2.2.2.1), ((o + 11), out.2.2.2.2.2.2.2.2.2.2.2.2.2.2.2.2.1), ((o + 12), out.2.2.2.2.2.2.2.2.2.2.2.2.2.2.2.2.2.1), ((o + 13), out.2.2.2.2.2.2.2.2.2.2.2.2.2.2.2.2.2.2.1), ((o + 14), out.2.2.2.2.2.2.2.2.2.2.2.2.2.2.2.2.2.2.2.1), ((o + 15), out.2.2.2.2.2.2.2.2.2.2.2.2.2.2.2.2.2.2.2.2.1), ((o + 16), out.2.2.2.2.2.2.2.2.2.2.2.2.2.2.2.2.2.2.2.2.2.1), ((o + 17), out.2.2.2.2.2.2.2.2.2.2.2.2.2.2.2.2.2.2.2.2.2.2.1), ((o + 18), out.2.2.2.2.2.2.2.2.2.2.2.2.2.2.2.2.2.2.2.2.2.2.2.1), ((o + 32), out.2.2.2.2.2.2.2.2.2.2.2.2.2.2.2.2.2.2.2.2.2.2.2.2.1), ((o + 33), out.2.2.2.2.2.2.2.2.2.2.2.2.2.2.2.2.2.2.2.2.2.2.2.2.2.1), ((o + 34), out.2.2.2.2.2.2.2.2.2.2.2.2.2.2.2.2.2.2.2.2.2.2.2.2.2.2.1), ((o + 35), out.2.2.2.2.2.2.2.2.2.2.2.2.2.2.2.2.2.2.2.2.2.2.2.2.2.2.2.1), ((o + 43), out.2.2.2.2.2.2.2.2.2.2.2.2.2.2.2.2.2.2.2.2.2.2.2.2.2.2.2.2)]) B Q) ([.ref o, .int p1] : List Value).toArray s 0 0 (gA G)) (F0 m pc ls [.int out.1]) := fun pc H locs ls hd hR hS => g_iret hx hb hr hlocks hG hR hS rfl hd
  generalize MQ below (gQ G (some (.int out.1)) K (ov I [(1100, o, out.2.1), (1122, o, out.2.2.1), (1133, o, out.2.2.2.1), (1134, o, out.2.2.2.2.1), (1135, o, out.2.2.2.2.2.1), (1136, o, out.2.2.2.2.2.2.1), (1137, o, out.2.2.2.2.2.2.2.1), (1138, o, out.2.2.2.2.2.2.2.2.1), (1139, o, out.2.2.2.2.2.2.2.2.2.1), (1140, o, out.2.2.2.2.2.2.2.2.2.2.1), (1141, o, out.2.2.2.2.2.2.2.2.2.2.2.1), (1142, o, out.2.2.2.2.2.2.2.2.2.2.2.2.1), (1170, o, out.2.2.2.2.2.2.2.2.2.2.2.2.2.1)]) J X (ova A [((o + 2), out.2.2.2.2.2.2.2.2.2.2.2.2.2.2.1), ((o + 10), out.2.2.2.2.2.2.2.2.2.2.2.2.2.2.2.1), ((o + 11), out.2.2.2.2.2.2.2.2.2.2.2.2.2.2.2.2.1), ((o + 12), out.2.2.2.2.2.2.2.2.2.2.2.2.2.2.2.2.2.1), ((o + 13), out.2.2.2.2.2.2.2.2.2.2.2.2.2.2.2.2.2.2.1), ((o + 14), out.2.2.2.2.2.2.2.2.2.2.2.2.2.2.2.2.2.2.2.1), ((o + 15), out.2.2.2.2.2.2.2.2.2.2.2.2.2.2.2.2.2.2.2.2.1), ((o + 16), out.2.2.2.2.2.2.2.2.2.2.2.2.2.2.2.2.2.2.2.2.2.1), ((o + 17), out.2.2.2.2.2.2.2.2.2.2.2.2.2.2.2.2.2.2.2.2.2.2.1), ((o + 18), out.2.2.2.2.2.2.2.2.2.2.2.2.2.2.2.2.2.2.2.2.2.2.2.1), ((o + 32), out.2.2.2.2.2.2.2.2.2.2.2.2.2.2.2.2.2.2.2.2.2.2.2.2.1), ((o + 33), out.2.2.2.2.2.2.2.2.2.2.2.2.2.2.2.2.2.2.2.2.2.2.2.2.2.1), ((o + 34), out.2.2.2.2.2.2.2.2.2.2.2.2.2.2.2.2.2.2.2.2.2.2.2.2.2.2.1), ((o + 35), out.2.2.2.2.2.2.2.2.2.2.2.2.2.2.2.2.2.2.2.2.2.2.2.2.2.2.2.1), ((o + 43), out.2.2.2.2.2.2.2.2.2.2.2.2.2.2.2.2.2.2.2.2.2.2.2.2.2.2.2.2)]) B Q) ([.ref o, .int p1] : List Value).toArray s 0 0 (gA G) = Z at hend ⊢
  generalize ([.ref o, .int p1] : List Value).toArray = args at hts hend ⊢
  unfold f14_said at hf
  refine lv_aload_n hx hb dX14_said_0 rfl (lv_at hl 0 rfl) ?_
  refine lv_iconst (v := 0) hx hb dX14_said_1 li_0 ?_
  refine n_puti (li' := [(1100, o, (0 : Int32)), (1122, o, i_isBegun), (1133, o, i_teamMany), (1134, o, i_teamKind), (1135, o, i_well), (1136, o, i_tick), (1137, o, i_empty), (1138, o, i_away), (1139, o, i_litresThrown), (1140, o, i_spilt), (1141, o, i_pailsThrown), (1142, o, i_drawn), (1170, o, i_lost)]) hx hb hts hown hG hR hS gPi_X14_148_11 shM.1 0 rfl rfl rfl dX14_said_2 (fun H locs hR hS => ?_)
  refine lv_aload_n hx hb dX14_said_5 rfl (lv_at hl 0 rfl) ?_
  obtain ⟨rr1, hrr1, hf⟩ := bind_s hf
  refine g0_cVv (rm := (1, 21)) (As := []) (rest := []) ⟨hx, hb, hml, hown, hts⟩ hG hR hS (m14_lay l G K (ov I [(1100, o, (0 : Int32)), (1122, o, i_isBegun), (1133, o, i_teamMany), (1134, o, i_teamKind), (1135, o, i_well), (1136, o, i_tick), (1137, o, i_empty), (1138, o, i_away), (1139, o, i_litresThrown), (1140, o, i_spilt), (1141, o, i_pailsThrown), (1142, o, i_drawn), (1170, o, i_lost)]) J X (ova A [((o + 2), a_now), ((o + 10), a_team), ((o + 11), a_rest), ((o + 12), a_load), ((o + 13), a_done), ((o + 14), a_queue), ((o + 15), a_waits), ((o + 16), a_most), ((o + 17), a_comes), ((o + 18), a_state), ((o + 32), a_fuel), ((o + 33), a_burn), ((o + 34), a_wet), ((o + 35), a_heat), ((o + 43), a_night)]) B Q o shM i_isBegun a_now (ov_get 1 rfl rfl) (ova_get 0 hN_A rfl) rr1 hrr1) (cwV 0 hts gi_X14_232 rfl rfl rfl hd_X14_lay ⟨Nat.le_of_ble_eq_true rfl, Nat.le_of_ble_eq_true rfl⟩) shM.1 rfl rfl hl.1 (Nat.le_of_ble_eq_true rfl) dX14_said_6 ⟨Nat.le_refl _, Nat.le_refl _⟩ rfl (fun H locs hR hS => ?_)
  have hR : RS G K (ov I [(1100, o, (0 : Int32)), (1122, o, rr1.1), (1133, o, i_teamMany), (1134, o, i_teamKind), (1135, o, i_well), (1136, o, i_tick), (1137, o, i_empty), (1138, o, i_away), (1139, o, i_litresThrown), (1140, o, i_spilt), (1141, o, i_pailsThrown), (1142, o, i_drawn), (1170, o, i_lost)]) J X (ova A [((o + 2), rr1.2), ((o + 10), a_team), ((o + 11), a_rest), ((o + 12), a_load), ((o + 13), a_done), ((o + 14), a_queue), ((o + 15), a_waits), ((o + 16), a_most), ((o + 17), a_comes), ((o + 18), a_state), ((o + 32), a_fuel), ((o + 33), a_burn), ((o + 34), a_wet), ((o + 35), a_heat), ((o + 43), a_night)]) B Q H := hR.to (ov_merge (l := [(1100, o, (0 : Int32)), (1122, o, i_isBegun), (1133, o, i_teamMany), (1134, o, i_teamKind), (1135, o, i_well), (1136, o, i_tick), (1137, o, i_empty), (1138, o, i_away), (1139, o, i_litresThrown), (1140, o, i_spilt), (1141, o, i_pailsThrown), (1142, o, i_drawn), (1170, o, i_lost)]) rfl [1] [(1122, o, rr1.1)] rfl rfl) rfl rfl (ova_merge (l := [((o + 2), a_now), ((o + 10), a_team), ((o + 11), a_rest), ((o + 12), a_load), ((o + 13), a_done), ((o + 14), a_queue), ((o + 15), a_waits), ((o + 16), a_most), ((o + 17), a_comes), ((o + 18), a_state), ((o + 32), a_fuel), ((o + 33), a_burn), ((o + 34), a_wet), ((o + 35), a_heat), ((o + 43), a_night)]) hN_A [0] [((o + 2), rr1.2)] rfl rfl) rfl rfl
  refine lv_aload_n hx hb dX14_said_9 rfl (lv_at hl 0 rfl) ?_
  refine g_getr (b := (o + 2)) hx hb hts hown hG hR gFx_X14_13_11 shM.1 ((shM.2 1 _ rfl).2) dX14_said_10 ?_
  refine lv_sipush (v := 540) hx hb dX14_said_13 ls_540 ?_
  obtain ⟨c2, hf⟩ := gd_some hf
  obtain ⟨v3, ev3, hf⟩ := lt_some hf
  refine n_iald (x := rr1.2) hx hb hG hR k_a_now c2 (ova_get 0 hN_A rfl) ev3 dX14_said_16 ?_
  refine lv_if_eq (tgt := 25) hx hb dX14_said_17 (by decide) (fun c4 => ?_) (fun c4 => ?_)
  · have hf := ite_t c4 hf
    refine lv_iconst (v := -1) hx hb dX14_said_25 li_m1 ?_
    obtain rfl := some_i hf
    exact hend _ _ _ _ dX14_said_26 hR hS
  · have hf := ite_f c4 hf
    refine lv_iload_n hx hb dX14_said_20 rfl (lv_at hl 1 rfl) ?_
    refine lv_iconst (v := -1) hx hb dX14_said_21 li_m1 ?_
    refine lv_icmp_ge (tgt := 27) hx hb dX14_said_22 (by decide) (fun c5 => ?_) (fun c5 => ?_)
    · have hf := ite_t c5 hf
      refine lv_aload_n hx hb dX14_said_27 rfl (lv_at hl 0 rfl) ?_
      obtain ⟨rr6, hrr6, hf⟩ := bind_s hf
      refine g0_cVv (rm := (6, 128)) (As := []) (rest := []) ⟨hx, hb, hml, hown, hts⟩ hG hR hS (m14_spend l G K (ov I [(1100, o, (0 : Int32)), (1122, o, rr1.1), (1133, o, i_teamMany), (1134, o, i_teamKind), (1135, o, i_well), (1136, o, i_tick), (1137, o, i_empty), (1138, o, i_away), (1139, o, i_litresThrown), (1140, o, i_spilt), (1141, o, i_pailsThrown), (1142, o, i_drawn), (1170, o, i_lost)]) J X (ova A [((o + 2), rr1.2), ((o + 10), a_team), ((o + 11), a_rest), ((o + 12), a_load), ((o + 13), a_done), ((o + 14), a_queue), ((o + 15), a_waits), ((o + 16), a_most), ((o + 17), a_comes), ((o + 18), a_state), ((o + 32), a_fuel), ((o + 33), a_burn), ((o + 34), a_wet), ((o + 35), a_heat), ((o + 43), a_night)]) B Q o shM rr1.1 i_teamMany i_teamKind i_well i_tick i_empty i_away i_litresThrown i_spilt i_pailsThrown i_drawn i_lost rr1.2 a_team a_rest a_load a_done a_queue a_waits a_most a_comes a_state a_fuel a_burn a_wet a_heat a_night (ov_get 1 rfl rfl) (ov_get 2 rfl rfl) (ov_get 3 rfl rfl) (ov_get 4 rfl rfl) (ov_get 5 rfl rfl) (ov_get 6 rfl rfl) (ov_get 7 rfl rfl) (ov_get 8 rfl rfl) (ov_get 9 rfl rfl) (ov_get 10 rfl rfl) (ov_get 11 rfl rfl) (ov_get 12 rfl rfl) (ova_get 0 hN_A rfl) (ova_get 1 hN_A rfl) (ova_get 2 hN_A rfl) (ova_get 3 hN_A rfl) (ova_get 4 hN_A rfl) (ova_get 5 hN_A rfl) (ova_get 6 hN_A rfl) (ova_get 7 hN_A rfl) (ova_get 8 hN_A rfl) (ova_get 9 hN_A rfl) (ova_get 10 hN_A rfl) (ova_get 11 hN_A rfl) (ova_get 12 hN_A rfl) (ova_get 13 hN_A rfl) (ova_get 14 hN_A rfl) rr6 hrr6) (cwV 0 hts gi_X14_500 rfl rfl rfl hd_X14_spend ⟨Nat.le_of_ble_eq_true rfl, Nat.le_of_ble_eq_true rfl⟩) shM.1 rfl rfl hl.1 (Nat.le_of_ble_eq_true rfl) dX14_said_28 ⟨Nat.le_refl _, Nat.le_refl _⟩ rfl (fun H locs hR hS => ?_)
      have hR : RS G K (ov I [(1100, o, (0 : Int32)), (1122, o, rr6.1), (1133, o, rr6.2.1), (1134, o, rr6.2.2.1), (1135, o, rr6.2.2.2.1), (1136, o, rr6.2.2.2.2.1), (1137, o, rr6.2.2.2.2.2.1), (1138, o, rr6.2.2.2.2.2.2.1), (1139, o, rr6.2.2.2.2.2.2.2.1), (1140, o, rr6.2.2.2.2.2.2.2.2.1), (1141, o, rr6.2.2.2.2.2.2.2.2.2.1), (1142, o, rr6.2.2.2.2.2.2.2.2.2.2.1), (1170, o, rr6.2.2.2.2.2.2.2.2.2.2.2.1)]) J X (ova A [((o + 2), rr6.2.2.2.2.2.2.2.2.2.2.2.2.1), ((o + 10), rr6.2.2.2.2.2.2.2.2.2.2.2.2.2.1), ((o + 11), rr6.2.2.2.2.2.2.2.2.2.2.2.2.2.2.1), ((o + 12), rr6.2.2.2.2.2.2.2.2.2.2.2.2.2.2.2.1), ((o + 13), rr6.2.2.2.2.2.2.2.2.2.2.2.2.2.2.2.2.1), ((o + 14), rr6.2.2.2.2.2.2.2.2.2.2.2.2.2.2.2.2.2.1), ((o + 15), rr6.2.2.2.2.2.2.2.2.2.2.2.2.2.2.2.2.2.2.1), ((o + 16), rr6.2.2.2.2.2.2.2.2.2.2.2.2.2.2.2.2.2.2.2.1), ((o + 17), rr6.2.2.2.2.2.2.2.2.2.2.2.2.2.2.2.2.2.2.2.2.1), ((o + 18), rr6.2.2.2.2.2.2.2.2.2.2.2.2.2.2.2.2.2.2.2.2.2.1), ((o + 32), rr6.2.2.2.2.2.2.2.2.2.2.2.2.2.2.2.2.2.2.2.2.2.2.1), ((o + 33), rr6.2.2.2.2.2.2.2.2.2.2.2.2.2.2.2.2.2.2.2.2.2.2.2.1), ((o + 34), rr6.2.2.2.2.2.2.2.2.2.2.2.2.2.2.2.2.2.2.2.2.2.2.2.2.1), ((o + 35), rr6.2.2.2.2.2.2.2.2.2.2.2.2.2.2.2.2.2.2.2.2.2.2.2.2.2.1), ((o + 43), rr6.2.2.2.2.2.2.2.2.2.2.2.2.2.2.2.2.2.2.2.2.2.2.2.2.2.2)]) B Q H := hR.to (ov_merge (l := [(1100, o, (0 : Int32)), (1122, o, rr1.1), (1133, o, i_teamMany), (1134, o, i_teamKind), (1135, o, i_well), (1136, o, i_tick), (1137, o, i_empty), (1138, o, i_away), (1139, o, i_litresThrown), (1140, o, i_spilt), (1141, o, i_pailsThrown), (1142, o, i_drawn), (1170, o, i_lost)]) rfl [1, 2, 3, 4, 5, 6, 7, 8, 9, 10, 11, 12] [(1122, o, rr6.1), (1133, o, rr6.2.1), (1134, o, rr6.2.2.1), (1135, o, rr6.2.2.2.1), (1136, o, rr6.2.2.2.2.1), (1137, o, rr6.2.2.2.2.2.1), (1138, o, rr6.2.2.2.2.2.2.1), (1139, o, rr6.2.2.2.2.2.2.2.1), (1140, o, rr6.2.2.2.2.2.2.2.2.1), (1141, o, rr6.2.2.2.2.2.2.2.2.2.1), (1142, o, rr6.2.2.2.2.2.2.2.2.2.2.1), (1170, o, rr6.2.2.2.2.2.2.2.2.2.2.2.1)] rfl rfl) rfl rfl (ova_merge (l := [((o + 2), rr1.2), ((o + 10), a_team), ((o + 11), a_rest), ((o + 12), a_load), ((o + 13), a_done), ((o + 14), a_queue), ((o + 15), a_waits), ((o + 16), a_most), ((o + 17), a_comes), ((o + 18), a_state), ((o + 32), a_fuel), ((o + 33), a_burn), ((o + 34), a_wet), ((o + 35), a_heat), ((o + 43), a_night)]) hN_A [0, 1, 2, 3, 4, 5, 6, 7, 8, 9, 10, 11, 12, 13, 14] [((o + 2), rr6.2.2.2.2.2.2.2.2.2.2.2.2.1), ((o + 10), rr6.2.2.2.2.2.2.2.2.2.2.2.2.2.1), ((o + 11), rr6.2.2.2.2.2.2.2.2.2.2.2.2.2.2.1), ((o + 12), rr6.2.2.2.2.2.2.2.2.2.2.2.2.2.2.2.1), ((o + 13), rr6.2.2.2.2.2.2.2.2.2.2.2.2.2.2.2.2.1), ((o + 14), rr6.2.2.2.2.2.2.2.2.2.2.2.2.2.2.2.2.2.1), ((o + 15), rr6.2.2.2.2.2.2.2.2.2.2.2.2.2.2.2.2.2.2.1), ((o + 16), rr6.2.2.2.2.2.2.2.2.2.2.2.2.2.2.2.2.2.2.2.1), ((o + 17), rr6.2.2.2.2.2.2.2.2.2.2.2.2.2.2.2.2.2.2.2.2.1), ((o + 18), rr6.2.2.2.2.2.2.2.2.2.2.2.2.2.2.2.2.2.2.2.2.2.1), ((o + 32), rr6.2.2.2.2.2.2.2.2.2.2.2.2.2.2.2.2.2.2.2.2.2.2.1), ((o + 33), rr6.2.2.2.2.2.2.2.2.2.2.2.2.2.2.2.2.2.2.2.2.2.2.2.1), ((o + 34), rr6.2.2.2.2.2.2.2.2.2.2.2.2.2.2.2.2.2.2.2.2.2.2.2.2.1), ((o + 35), rr6.2.2.2.2.2.2.2.2.2.2.2.2.2.2.2.2.2.2.2.2.2.2.2.2.2.1), ((o + 43), rr6.2.2.2.2.2.2.2.2.2.2.2.2.2.2.2.2.2.2.2.2.2.2.2.2.2.2)] rfl rfl) rfl rfl
      refine lv_iconst (v := 0) hx hb dX14_said_31 li_0 ?_
      refine lv_istore_n (lv' := [(2, .int (0 : Int32)), (0, .ref o), (1, .int p1)]) hx hb dX14_said_32 rfl hl (by decide) rfl (fun ls hl => ?_)
      refine lv_iconst (v := 0) hx hb dX14_said_33 li_0 ?_
      refine lv_istore_n (lv' := [(3, .int (0 : Int32)), (2, .int (0 : Int32)), (0, .ref o), (1, .int p1)]) hx hb dX14_said_34 rfl hl (by decide) rfl (fun ls hl => ?_)
      obtain ⟨rl7, hw7, hfo7⟩ := bind_s hf
      have hx7_0 : ∀ (x7_0 : Int32), f14_said_e7_0 p1 rr6 x7_0 = some out → ∀ (H : Heap) (locs : List Loc) (ls : Array Slot), RS G K (ov I [(1100, o, (0 : Int32)), (1122, o, rr6.1), (1133, o, rr6.2.1), (1134, o, rr6.2.2.1), (1135, o, rr6.2.2.2.1), (1136, o, rr6.2.2.2.2.1), (1137, o, rr6.2.2.2.2.2.1), (1138, o, rr6.2.2.2.2.2.2.1), (1139, o, rr6.2.2.2.2.2.2.2.1), (1140, o, rr6.2.2.2.2.2.2.2.2.1), (1141, o, rr6.2.2.2.2.2.2.2.2.2.1), (1142, o, rr6.2.2.2.2.2.2.2.2.2.2.1), (1170, o, rr6.2.2.2.2.2.2.2.2.2.2.2.1)]) J X (ova A [((o + 2), rr6.2.2.2.2.2.2.2.2.2.2.2.2.1), ((o + 10), rr6.2.2.2.2.2.2.2.2.2.2.2.2.2.1), ((o + 11), rr6.2.2.2.2.2.2.2.2.2.2.2.2.2.2.1), ((o + 12), rr6.2.2.2.2.2.2.2.2.2.2.2.2.2.2.2.1), ((o + 13), rr6.2.2.2.2.2.2.2.2.2.2.2.2.2.2.2.2.1), ((o + 14), rr6.2.2.2.2.2.2.2.2.2.2.2.2.2.2.2.2.2.1), ((o + 15), rr6.2.2.2.2.2.2.2.2.2.2.2.2.2.2.2.2.2.2.1), ((o + 16), rr6.2.2.2.2.2.2.2.2.2.2.2.2.2.2.2.2.2.2.2.1), ((o + 17), rr6.2.2.2.2.2.2.2.2.2.2.2.2.2.2.2.2.2.2.2.2.1), ((o + 18), rr6.2.2.2.2.2.2.2.2.2.2.2.2.2.2.2.2.2.2.2.2.2.1), ((o + 32), rr6.2.2.2.2.2.2.2.2.2.2.2.2.2.2.2.2.2.2.2.2.2.2.1), ((o + 33), rr6.2.2.2.2.2.2.2.2.2.2.2.2.2.2.2.2.2.2.2.2.2.2.2.1), ((o + 34), rr6.2.2.2.2.2.2.2.2.2.2.2.2.2.2.2.2.2.2.2.2.2.2.2.2.1), ((o + 35), rr6.2.2.2.2.2.2.2.2.2.2.2.2.2.2.2.2.2.2.2.2.2.2.2.2.2.1), ((o + 43), rr6.2.2.2.2.2.2.2.2.2.2.2.2.2.2.2.2.2.2.2.2.2.2.2.2.2.2)]) B Q H → va_S (gA G) s.heap H locs → lv_has ls 4 [(0, .ref o), (1, .int p1), (2, .int x7_0)] → W p l e ({ frames := 51, cells := 0, slots := 0, locals := 1326 } : Room) s m args below meth c H locs 0 0 Z (F0 m 76 ls []) := by
        intro x7_0 hf H locs ls hR hS hl
        unfold f14_said_e7_0 at hf
        refine lv_iload_n hx hb dX14_said_76 rfl (lv_at hl 1 rfl) ?_
        refine lv_iconst (v := -1) hx hb dX14_said_77 li_m1 ?_
        refine lv_icmp_ne (tgt := 85) hx hb dX14_said_78 (by decide) (fun c8 => ?_) (fun c8 => ?_)
        · have hf := ite_f c8 hf
          refine lv_iconst (v := -1) hx hb dX14_said_85 li_m1 ?_
          obtain rfl := some_i hf
          exact hend _ _ _ _ dX14_said_86 hR hS
        · have hf := ite_t c8 hf
          refine lv_iload_n hx hb dX14_said_81 rfl (lv_at hl 2 rfl) ?_
          refine lv_goto (tgt := 86) hx hb dX14_said_82 (by decide) ?_
          obtain rfl := some_i hf
          exact hend _ _ _ _ dX14_said_86 hR hS
      have hx7_1 : ∀ (x7_1 : Int32), f14_said_e7_1 rr6 x7_1 = some out → ∀ (H : Heap) (locs : List Loc) (ls : Array Slot), RS G K (ov I [(1100, o, (0 : Int32)), (1122, o, rr6.1), (1133, o, rr6.2.1), (1134, o, rr6.2.2.1), (1135, o, rr6.2.2.2.1), (1136, o, rr6.2.2.2.2.1), (1137, o, rr6.2.2.2.2.2.1), (1138, o, rr6.2.2.2.2.2.2.1), (1139, o, rr6.2.2.2.2.2.2.2.1), (1140, o, rr6.2.2.2.2.2.2.2.2.1), (1141, o, rr6.2.2.2.2.2.2.2.2.2.1), (1142, o, rr6.2.2.2.2.2.2.2.2.2.2.1), (1170, o, rr6.2.2.2.2.2.2.2.2.2.2.2.1)]) J X (ova A [((o + 2), rr6.2.2.2.2.2.2.2.2.2.2.2.2.1), ((o + 10), rr6.2.2.2.2.2.2.2.2.2.2.2.2.2.1), ((o + 11), rr6.2.2.2.2.2.2.2.2.2.2.2.2.2.2.1), ((o + 12), rr6.2.2.2.2.2.2.2.2.2.2.2.2.2.2.2.1), ((o + 13), rr6.2.2.2.2.2.2.2.2.2.2.2.2.2.2.2.2.1), ((o + 14), rr6.2.2.2.2.2.2.2.2.2.2.2.2.2.2.2.2.2.1), ((o + 15), rr6.2.2.2.2.2.2.2.2.2.2.2.2.2.2.2.2.2.2.1), ((o + 16), rr6.2.2.2.2.2.2.2.2.2.2.2.2.2.2.2.2.2.2.2.1), ((o + 17), rr6.2.2.2.2.2.2.2.2.2.2.2.2.2.2.2.2.2.2.2.2.1), ((o + 18), rr6.2.2.2.2.2.2.2.2.2.2.2.2.2.2.2.2.2.2.2.2.2.1), ((o + 32), rr6.2.2.2.2.2.2.2.2.2.2.2.2.2.2.2.2.2.2.2.2.2.2.1), ((o + 33), rr6.2.2.2.2.2.2.2.2.2.2.2.2.2.2.2.2.2.2.2.2.2.2.2.1), ((o + 34), rr6.2.2.2.2.2.2.2.2.2.2.2.2.2.2.2.2.2.2.2.2.2.2.2.2.1), ((o + 35), rr6.2.2.2.2.2.2.2.2.2.2.2.2.2.2.2.2.2.2.2.2.2.2.2.2.2.1), ((o + 43), rr6.2.2.2.2.2.2.2.2.2.2.2.2.2.2.2.2.2.2.2.2.2.2.2.2.2.2)]) B Q H → va_S (gA G) s.heap H locs → lv_has ls 4 [(0, .ref o), (3, .int x7_1)] → W p l e ({ frames := 51, cells := 0, slots := 0, locals := 1326 } : Room) s m args below meth c H locs 0 0 Z (F0 m 65 ls []) := by
        intro x7_1 hf H locs ls hR hS hl
        unfold f14_said_e7_1 at hf
        refine lv_iload_n hx hb dX14_said_65 rfl (lv_at hl 1 rfl) ?_
        obtain rfl := some_i hf
        exact hend _ _ _ _ dX14_said_66 hR hS
      refine whl_walk (P := fun (s7 : Int32 × Int32) => ∀ (H : Heap) (locs : List Loc) (ls : Array Slot), RS G K (ov I [(1100, o, (0 : Int32)), (1122, o, rr6.1), (1133, o, rr6.2.1), (1134, o, rr6.2.2.1), (1135, o, rr6.2.2.2.1), (1136, o, rr6.2.2.2.2.1), (1137, o, rr6.2.2.2.2.2.1), (1138, o, rr6.2.2.2.2.2.2.1), (1139, o, rr6.2.2.2.2.2.2.2.1), (1140, o, rr6.2.2.2.2.2.2.2.2.1), (1141, o, rr6.2.2.2.2.2.2.2.2.2.1), (1142, o, rr6.2.2.2.2.2.2.2.2.2.2.1), (1170, o, rr6.2.2.2.2.2.2.2.2.2.2.2.1)]) J X (ova A [((o + 2), rr6.2.2.2.2.2.2.2.2.2.2.2.2.1), ((o + 10), rr6.2.2.2.2.2.2.2.2.2.2.2.2.2.1), ((o + 11), rr6.2.2.2.2.2.2.2.2.2.2.2.2.2.2.1), ((o + 12), rr6.2.2.2.2.2.2.2.2.2.2.2.2.2.2.2.1), ((o + 13), rr6.2.2.2.2.2.2.2.2.2.2.2.2.2.2.2.2.1), ((o + 14), rr6.2.2.2.2.2.2.2.2.2.2.2.2.2.2.2.2.2.1), ((o + 15), rr6.2.2.2.2.2.2.2.2.2.2.2.2.2.2.2.2.2.2.1), ((o + 16), rr6.2.2.2.2.2.2.2.2.2.2.2.2.2.2.2.2.2.2.2.1), ((o + 17), rr6.2.2.2.2.2.2.2.2.2.2.2.2.2.2.2.2.2.2.2.2.1), ((o + 18), rr6.2.2.2.2.2.2.2.2.2.2.2.2.2.2.2.2.2.2.2.2.2.1), ((o + 32), rr6.2.2.2.2.2.2.2.2.2.2.2.2.2.2.2.2.2.2.2.2.2.2.1), ((o + 33), rr6.2.2.2.2.2.2.2.2.2.2.2.2.2.2.2.2.2.2.2.2.2.2.2.1), ((o + 34), rr6.2.2.2.2.2.2.2.2.2.2.2.2.2.2.2.2.2.2.2.2.2.2.2.2.1), ((o + 35), rr6.2.2.2.2.2.2.2.2.2.2.2.2.2.2.2.2.2.2.2.2.2.2.2.2.2.1), ((o + 43), rr6.2.2.2.2.2.2.2.2.2.2.2.2.2.2.2.2.2.2.2.2.2.2.2.2.2.2)]) B Q H → va_S (gA G) s.heap H locs → lv_has ls 4 [(0, .ref o), (1, .int p1), (2, .int s7.1), (3, .int s7.2)] → W p l e ({ frames := 51, cells := 0, slots := 0, locals := 1326 } : Room) s m args below meth c H locs 0 0 Z (F0 m 35 ls [])) (r := rl7) ?_ FU _ hw7 _ _ _ hR hS (lv_sub hl [2, 3, 1, 0] rfl)
      clear hR hS hl hf
      intro s7 o7 hf hk7 H locs ls hR hS hl
      obtain ⟨w7_2, w7_3⟩ := s7
      have hf : f14_said_s7 p1 rr6 w7_2 w7_3 = some o7 := hf
      have hR : RS G K (ov I [(1100, o, (0 : Int32)), (1122, o, rr6.1), (1133, o, rr6.2.1), (1134, o, rr6.2.2.1), (1135, o, rr6.2.2.2.1), (1136, o, rr6.2.2.2.2.1), (1137, o, rr6.2.2.2.2.2.1), (1138, o, rr6.2.2.2.2.2.2.1), (1139, o, rr6.2.2.2.2.2.2.2.1), (1140, o, rr6.2.2.2.2.2.2.2.2.1), (1141, o, rr6.2.2.2.2.2.2.2.2.2.1), (1142, o, rr6.2.2.2.2.2.2.2.2.2.2.1), (1170, o, rr6.2.2.2.2.2.2.2.2.2.2.2.1)]) J X (ova A [((o + 2), rr6.2.2.2.2.2.2.2.2.2.2.2.2.1), ((o + 10), rr6.2.2.2.2.2.2.2.2.2.2.2.2.2.1), ((o + 11), rr6.2.2.2.2.2.2.2.2.2.2.2.2.2.2.1), ((o + 12), rr6.2.2.2.2.2.2.2.2.2.2.2.2.2.2.2.1), ((o + 13), rr6.2.2.2.2.2.2.2.2.2.2.2.2.2.2.2.2.1), ((o + 14), rr6.2.2.2.2.2.2.2.2.2.2.2.2.2.2.2.2.2.1), ((o + 15), rr6.2.2.2.2.2.2.2.2.2.2.2.2.2.2.2.2.2.2.1), ((o + 16), rr6.2.2.2.2.2.2.2.2.2.2.2.2.2.2.2.2.2.2.2.1), ((o + 17), rr6.2.2.2.2.2.2.2.2.2.2.2.2.2.2.2.2.2.2.2.2.1), ((o + 18), rr6.2.2.2.2.2.2.2.2.2.2.2.2.2.2.2.2.2.2.2.2.2.1), ((o + 32), rr6.2.2.2.2.2.2.2.2.2.2.2.2.2.2.2.2.2.2.2.2.2.2.1), ((o + 33), rr6.2.2.2.2.2.2.2.2.2.2.2.2.2.2.2.2.2.2.2.2.2.2.2.1), ((o + 34), rr6.2.2.2.2.2.2.2.2.2.2.2.2.2.2.2.2.2.2.2.2.2.2.2.2.1), ((o + 35), rr6.2.2.2.2.2.2.2.2.2.2.2.2.2.2.2.2.2.2.2.2.2.2.2.2.2.1), ((o + 43), rr6.2.2.2.2.2.2.2.2.2.2.2.2.2.2.2.2.2.2.2.2.2.2.2.2.2.2)]) B Q H := hR
      have hl : lv_has ls 4 [(0, .ref o), (1, .int p1), (2, .int w7_2), (3, .int w7_3)] := hl
      unfold f14_said_s7 at hf
      refine lv_iload_n hx hb dX14_said_35 rfl (lv_at hl 3 rfl) ?_
      refine lv_bipush (v := 60) hx hb dX14_said_36 lb_60 ?_
      refine lv_icmp_ge (tgt := 76) hx hb dX14_said_38 (by decide) (fun c9 => ?_) (fun c9 => ?_)
      · have hf := ite_t c9 hf
        obtain rfl := some_i hf
        replace hk7 : _ = rl7 := hk7
        subst hk7
        exact hx7_0 w7_2 (el_l hfo7) _ _ _ hR hS (lv_sub hl [0, 1, 2] rfl)
      · have hf := ite_f c9 hf
        refine lv_aload_n hx hb dX14_said_41 rfl (lv_at hl 0 rfl) ?_
        refine lv_aload_n hx hb dX14_said_42 rfl (lv_at hl 0 rfl) ?_
        refine g_getr (b := (o + 2)) hx hb hts hown hG hR gFx_X14_13_11 shM.1 ((shM.2 1 _ rfl).2) dX14_said_43 ?_
        refine lv_sipush (v := 541) hx hb dX14_said_46 ls_541 ?_
        obtain ⟨c10, hf⟩ := gd_some hf
        obtain ⟨v11, ev11, hf⟩ := lt_some hf
        refine n_iald (x := rr6.2.2.2.2.2.2.2.2.2.2.2.2.1) hx hb hG hR k_a_now c10 (ova_get 0 hN_A rfl) ev11 dX14_said_49 ?_
        refine lv_iload_n hx hb dX14_said_50 rfl (lv_at hl 3 rfl) ?_
        obtain ⟨rr12, hrr12, hf⟩ := bind_s hf
        refine g0_cV (rm := (50, 1300)) (As := [.int v11, .int w7_3]) (rest := []) ⟨hx, hb, hml, hown, hts⟩ hG hR hS (m14_isSo l 50 G K (ov I [(1100, o, (0 : Int32)), (1122, o, rr6.1), (1133, o, rr6.2.1), (1134, o, rr6.2.2.1), (1135, o, rr6.2.2.2.1), (1136, o, rr6.2.2.2.2.1), (1137, o, rr6.2.2.2.2.2.1), (1138, o, rr6.2.2.2.2.2.2.1), (1139, o, rr6.2.2.2.2.2.2.2.1), (1140, o, rr6.2.2.2.2.2.2.2.2.1), (1141, o, rr6.2.2.2.2.2.2.2.2.2.1), (1142, o, rr6.2.2.2.2.2.2.2.2.2.2.1), (1170, o, rr6.2.2.2.2.2.2.2.2.2.2.2.1)]) J X (ova A [((o + 2), rr6.2.2.2.2.2.2.2.2.2.2.2.2.1), ((o + 10), rr6.2.2.2.2.2.2.2.2.2.2.2.2.2.1), ((o + 11), rr6.2.2.2.2.2.2.2.2.2.2.2.2.2.2.1), ((o + 12), rr6.2.2.2.2.2.2.2.2.2.2.2.2.2.2.2.1), ((o + 13), rr6.2.2.2.2.2.2.2.2.2.2.2.2.2.2.2.2.1), ((o + 14), rr6.2.2.2.2.2.2.2.2.2.2.2.2.2.2.2.2.2.1), ((o + 15), rr6.2.2.2.2.2.2.2.2.2.2.2.2.2.2.2.2.2.2.1), ((o + 16), rr6.2.2.2.2.2.2.2.2.2.2.2.2.2.2.2.2.2.2.2.1), ((o + 17), rr6.2.2.2.2.2.2.2.2.2.2.2.2.2.2.2.2.2.2.2.2.1), ((o + 18), rr6.2.2.2.2.2.2.2.2.2.2.2.2.2.2.2.2.2.2.2.2.2.1), ((o + 32), rr6.2.2.2.2.2.2.2.2.2.2.2.2.2.2.2.2.2.2.2.2.2.2.1), ((o + 33), rr6.2.2.2.2.2.2.2.2.2.2.2.2.2.2.2.2.2.2.2.2.2.2.2.1), ((o + 34), rr6.2.2.2.2.2.2.2.2.2.2.2.2.2.2.2.2.2.2.2.2.2.2.2.2.1), ((o + 35), rr6.2.2.2.2.2.2.2.2.2.2.2.2.2.2.2.2.2.2.2.2.2.2.2.2.2.1), ((o + 43), rr6.2.2.2.2.2.2.2.2.2.2.2.2.2.2.2.2.2.2.2.2.2.2.2.2.2.2)]) B Q o shM v11 w7_3 rr6.2.2.2.2.2.2.2.2.2.2.2.2.1 rr6.2.2.2.2.2.2.2.2.2.2.2.2.2.2.2.2.2.2.2.2.2.2.2.2.2.2 (ova_get 0 hN_A rfl) (ova_get 14 hN_A rfl) rr12 hrr12) (cwV 2 hts gi_X14_537 rfl rfl rfl hd_X14_isSo ⟨Nat.le_of_ble_eq_true rfl, Nat.le_of_ble_eq_true rfl⟩) shM.1 rfl rfl hl.1 (Nat.le_of_ble_eq_true rfl) dX14_said_51 ⟨Nat.le_refl _, Nat.le_refl _⟩ rfl (fun H locs hR hS => ?_)
        have hj70 : ∀ (j70_2 : Int32), f14_said_j70 w7_3 j70_2 = some o7 → ∀ (H : Heap) (locs : List Loc) (ls : Array Slot), RS G K (ov I [(1100, o, (0 : Int32)), (1122, o, rr6.1), (1133, o, rr6.2.1), (1134, o, rr6.2.2.1), (1135, o, rr6.2.2.2.1), (1136, o, rr6.2.2.2.2.1), (1137, o, rr6.2.2.2.2.2.1), (1138, o, rr6.2.2.2.2.2.2.1), (1139, o, rr6.2.2.2.2.2.2.2.1), (1140, o, rr6.2.2.2.2.2.2.2.2.1), (1141, o, rr6.2.2.2.2.2.2.2.2.2.1), (1142, o, rr6.2.2.2.2.2.2.2.2.2.2.1), (1170, o, rr6.2.2.2.2.2.2.2.2.2.2.2.1)]) J X (ova A [((o + 2), rr6.2.2.2.2.2.2.2.2.2.2.2.2.1), ((o + 10), rr6.2.2.2.2.2.2.2.2.2.2.2.2.2.1), ((o + 11), rr6.2.2.2.2.2.2.2.2.2.2.2.2.2.2.1), ((o + 12), rr6.2.2.2.2.2.2.2.2.2.2.2.2.2.2.2.1), ((o + 13), rr6.2.2.2.2.2.2.2.2.2.2.2.2.2.2.2.2.1), ((o + 14), rr6.2.2.2.2.2.2.2.2.2.2.2.2.2.2.2.2.2.1), ((o + 15), rr6.2.2.2.2.2.2.2.2.2.2.2.2.2.2.2.2.2.2.1), ((o + 16), rr6.2.2.2.2.2.2.2.2.2.2.2.2.2.2.2.2.2.2.2.1), ((o + 17), rr6.2.2.2.2.2.2.2.2.2.2.2.2.2.2.2.2.2.2.2.2.1), ((o + 18), rr6.2.2.2.2.2.2.2.2.2.2.2.2.2.2.2.2.2.2.2.2.2.1), ((o + 32), rr6.2.2.2.2.2.2.2.2.2.2.2.2.2.2.2.2.2.2.2.2.2.2.1), ((o + 33), rr6.2.2.2.2.2.2.2.2.2.2.2.2.2.2.2.2.2.2.2.2.2.2.2.1), ((o + 34), rr6.2.2.2.2.2.2.2.2.2.2.2.2.2.2.2.2.2.2.2.2.2.2.2.2.1), ((o + 35), rr6.2.2.2.2.2.2.2.2.2.2.2.2.2.2.2.2.2.2.2.2.2.2.2.2.2.1), ((o + 43), rr6.2.2.2.2.2.2.2.2.2.2.2.2.2.2.2.2.2.2.2.2.2.2.2.2.2.2)]) B Q H → va_S (gA G) s.heap H locs → lv_has ls 4 [(0, .ref o), (1, .int p1), (2, .int j70_2), (3, .int w7_3)] → W p l e ({ frames := 51, cells := 0, slots := 0, locals := 1326 } : Room) s m args below meth c H locs 0 0 Z (F0 m 70 ls []) := by
          intro j70_2 hf H locs ls hR hS hl
          unfold f14_said_j70 at hf
          obtain ⟨v13, ev13, hf⟩ := lt_some hf
          refine lv_iinc (k := 3) (v := v13) (lv' := [(3, .int v13), (0, .ref o), (1, .int p1), (2, .int j70_2)]) hx hb dX14_said_70 hl rfl (by rw [ev13]; rfl) (by decide) rfl (fun ls hl => ?_)
          refine lv_goto (tgt := 35) hx hb dX14_said_73 (by decide) ?_
          obtain rfl := some_i hf
          exact hk7 _ _ _ hR hS (lv_sub hl [1, 2, 3, 0] rfl)
        refine lv_if_ne (tgt := 60) hx hb dX14_said_54 (by decide) (fun c14 => ?_) (fun c14 => ?_)
        · have hf := ite_f c14 hf
          refine lv_iload_n hx hb dX14_said_60 rfl (lv_at hl 2 rfl) ?_
          refine lv_iload_n hx hb dX14_said_61 rfl (lv_at hl 1 rfl) ?_
          refine lv_icmp_ne (tgt := 67) hx hb dX14_said_62 (by decide) (fun c15 => ?_) (fun c15 => ?_)
          · have hf := ite_f c15 hf
            obtain ⟨v16, ev16, hf⟩ := lt_some hf
            refine lv_iinc (k := 2) (v := v16) (lv' := [(2, .int v16), (0, .ref o), (1, .int p1), (3, .int w7_3)]) hx hb dX14_said_67 hl rfl (by rw [ev16]; rfl) (by decide) rfl (fun ls hl => ?_)
            exact hj70 v16 hf _ _ _ hR hS (lv_sub hl [1, 2, 0, 3] rfl)
          · have hf := ite_t c15 hf
            obtain rfl := some_i hf
            replace hk7 : _ = rl7 := hk7
            subst hk7
            exact hx7_1 w7_3 (el_r hfo7) _ _ _ hR hS (lv_sub hl [0, 3] rfl)
        · have hf := ite_t c14 hf
          refine lv_goto (tgt := 70) hx hb dX14_said_57 (by decide) ?_
          exact hj70 w7_2 hf _ _ _ hR hS (lv_sub hl [0, 1, 2, 3] rfl)
    · have hf := ite_f c5 hf
      refine lv_iconst (v := -1) hx hb dX14_said_25 li_m1 ?_
      obtain rfl := some_i hf
      exact hend _ _ _ _ dX14_said_26 hR hS
