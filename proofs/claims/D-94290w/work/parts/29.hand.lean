/-! CONSTRUCTORS by hand: Fault, the readers -/
set_option maxRecDepth 100000
theorem ofl_ok {α : Type} {l : List (Nat × Nat × α)} {L : Nat} (h : l.all (fun e => Nat.blt e.2.1 L) = true) : ∀ e ∈ l, e.2.1 < L := fun e he => Nat.le_of_ble_eq_true (List.all_eq_true.mp h e he)
theorem ofa_ok {α : Type} {l : List (Nat × α)} {L : Nat} (h : l.all (fun e => Nat.blt e.1 L) = true) : ∀ e ∈ l, e.1 < L := fun e he => Nat.le_of_ble_eq_true (List.all_eq_true.mp h e he)
def tyX0z : Nat → FieldType := fun _ => .int
theorem hdv_0 : ∀ j, j < 52 → defaultValue (tyX1 j) = gdv (ft 0 j) := by decide +kernel
theorem hdv_1 : ∀ j, j < 8 → defaultValue (tyX2 j) = gdv (ft 1 j) := by decide +kernel
theorem hdv_2 : ∀ j, j < 3 → defaultValue (tyX3 j) = gdv (ft 2 j) := by decide +kernel
theorem hdv_3 : ∀ j, j < 15 → defaultValue (tyX4 j) = gdv (ft 3 j) := by decide +kernel
theorem hdv_4 : ∀ j, j < 2 → defaultValue (tyX5 j) = gdv (ft 4 j) := by decide +kernel
theorem hdv_5 : ∀ j, j < 10 → defaultValue (tyX7 j) = gdv (ft 5 j) := by decide +kernel
theorem hdv_6 : ∀ j, j < 10 → defaultValue (tyX8 j) = gdv (ft 6 j) := by decide +kernel
theorem hdv_7 : ∀ j, j < 19 → defaultValue (tyX10 j) = gdv (ft 7 j) := by decide +kernel
theorem hdv_8 : ∀ j, j < 10 → defaultValue (tyX11 j) = gdv (ft 8 j) := by decide +kernel
theorem hdv_9 : ∀ j, j < 6 → defaultValue (tyX12 j) = gdv (ft 9 j) := by decide +kernel
theorem hdv_10 : ∀ j, j < 11 → defaultValue (tyX13 j) = gdv (ft 10 j) := by decide +kernel
theorem hdv_11 : ∀ j, j < 91 → defaultValue (tyX14 j) = gdv (ft 11 j) := by decide +kernel
theorem hdv_12 : ∀ j, j < 4 → defaultValue (tyX15 j) = gdv (ft 12 j) := by decide +kernel
theorem hdv_13 : ∀ j, j < 5 → defaultValue (tyX16 j) = gdv (ft 13 j) := by decide +kernel
theorem hdv_14 : ∀ j, j < 1 → defaultValue (tyX18 j) = gdv (ft 14 j) := by decide +kernel
theorem hdv_15 : ∀ j, j < 3 → defaultValue (tyX19 j) = gdv (ft 15 j) := by decide +kernel
theorem hdv_16 : ∀ j, j < 0 → defaultValue (tyX0z j) = gdv (ft 16 j) := by decide +kernel
theorem hdv_17 : ∀ j, j < 2 → defaultValue (tyX21 j) = gdv (ft 17 j) := by decide +kernel
theorem hdv_18 : ∀ j, j < 2 → defaultValue (tyX22 j) = gdv (ft 18 j) := by decide +kernel
theorem pd_1 : ∀ j, j < gN 1 → (parseFieldDescriptor (gT 1 j).2.2.1).isSome = true := by decide +kernel
theorem pd_5 : ∀ j, j < gN 5 → (parseFieldDescriptor (gT 5 j).2.2.1).isSome = true := by decide +kernel
theorem pd_6 : ∀ j, j < gN 6 → (parseFieldDescriptor (gT 6 j).2.2.1).isSome = true := by decide +kernel
theorem pd_10 : ∀ j, j < gN 10 → (parseFieldDescriptor (gT 10 j).2.2.1).isSome = true := by decide +kernel
theorem pd_13 : ∀ j, j < gN 13 → (parseFieldDescriptor (gT 13 j).2.2.1).isSome = true := by decide +kernel
theorem pd_14 : ∀ j, j < gN 14 → (parseFieldDescriptor (gT 14 j).2.2.1).isSome = true := by decide +kernel
theorem pd_15 : ∀ j, j < gN 15 → (parseFieldDescriptor (gT 15 j).2.2.1).isSome = true := by decide +kernel
theorem pd_17 : ∀ j, j < gN 17 → (parseFieldDescriptor (gT 17 j).2.2.1).isSome = true := by decide +kernel
theorem pd_18 : ∀ j, j < gN 18 → (parseFieldDescriptor (gT 18 j).2.2.1).isSome = true := by decide +kernel
/-- a final field whose name another field of the class has too -/
def GFin2 (own : String) (index ci k j : Nat) : Prop := ∃ (C : String) (T : u_T) (N : Nat), gCl[ci]? = some (C, T, N) ∧ k < N ∧ j < N ∧ j ≠ k ∧ (∀ w ∈ u_ws C T N, w ∈ lw_all) ∧ Cond.fieldLink own index (T k).1 (T k).2.1 (T k).2.2.1 ∈ lw_all ∧ (T k).2.2.2 = true ∧ (T k).1 = own ∧
  (∀ i, i < N → i ≠ k → i ≠ j → (T i).2.1 ≠ (T k).2.1) ∧ (∀ i, i < N → (parseFieldDescriptor (T i).2.2.1).isSome = true) ∧ parseFieldDescriptor (T k).2.2.1 = some (.object "PailRow") ∧ ft ci k = 2 ∧ ft ci j = 2
section GH
variable {p : Program} {l : Launch} {e : Env} {R : Room} {s : State} {m : MethodId} {args : Array Value} {below : List Frame} {meth : Method} {c : Code} {H H0 : Heap} {locs : List Loc} {cells slots : Nat} {Z : State → Prop}
variable {cc : ByteArray} {pc n : Nat} {ls : Array Slot} {rest : List Value} {G : gG} {K : gK} {I : gI} {J : gJ} {X : gX} {A : gI} {B : gJ} {Q : gX} {index ci : Nat} {own C : String}
/-- .. what the write makes of the refs -/
def dupX (G : gG) (ci k j a : Nat) (v : Option Nat) (X : gX) : gX := if G.1.2 ci k = G.1.2 ci j then i_up (i_up X (fid ci j) a v) (fid ci k) a v else i_up X (fid ci k) a v
theorem g_putT {a k j : Nat} {v : Option Nat} (hx : p.tables.exec = Jvm.exec) (hb : c.code = cc) (hts : ∀ w ∈ lw_all, w.before args s = true) (hown : s.vm.findClass own = some m.cls) (hin2 : meth.name = "<init>") (hG : GC G s) (hR : RS G K I J X A B Q H) (hS : va_S (gA G) H0 H locs) (hL : GFin2 own index ci k j) (hk : K a = some (.inl ci)) (hdg : decode cc pc = .ok (.putfield index, 3))
    (kk : ∀ (H1 : Heap) (locs1 : List Loc), RS G K I J (dupX G ci k j a v X) A B Q H1 → va_S (gA G) H0 H1 locs1 → W p l e R s m args below meth c H1 locs1 cells slots Z (F0 m (pc + 3) ls rest)) : W p l e R s m args below meth c H locs cells slots Z (F0 m pc ls (va_rf v :: .ref a :: rest)) := by
  obtain ⟨C, T, N, hc, hkN, hjN, hjk, hin, hl, hfin, hdecl, hnm, hpd, hd, hft, hft2⟩ := hL
  obtain ⟨eT, eN⟩ := gT_of hc
  obtain ⟨hci, cell, q1, q2, q3, q4⟩ := hR.obj hk
  rw [eN] at q4
  obtain ⟨hSl, hfc, kC, hkC, hkind⟩ := hG.1.1 ci _ hc
  obtain ⟨cf, kf, fi, f, hi, hsl⟩ := hSl k hkN
  have hlay := hts _ (hin _ (u_in_lay hkN))
  unfold u_lay at hlay
  rw [if_pos hfin] at hlay
  have hst := (u_facts hfc hkC (u_lays hts hin hkN) hi).1
  have hcf : m.cls = cf := by
    obtain ⟨_, _, c', _, _, _, -, -, hf', -, -, -, hown2, -⟩ := Cond.laysFinal_spec hlay
    have e1 : c' = cf := by have := hi.symm.trans hf'; simp at this; exact this.1.symm
    rw [hdecl] at hown2
    rw [← e1]; exact Option.some.inj (hown.symm.trans hown2)
  have h6 := u_fits hfc hkC hkind (Or.inr hlay) hi (v := va_rf v) hd (by cases v <;> rfl) (by cases v <;> rfl)
  have hap : ∀ i, i < N → i ≠ k → i ≠ j → G.1.2 ci k ≠ G.1.2 ci i := by
    intro i hi2 hne hne2
    obtain ⟨_, _, _, fb, hib, eb⟩ := hSl i hi2
    rw [← hsl, ← eb]
    refine u_apart (u_lays hts hin hkN) (u_lays hts hin hi2) hi hib ?_
    have e1 : f.name = (T k).2.1 := (State.fieldFound?_type hi hd).1
    have e2 : fb.name = (T i).2.1 := by
      cases hp : parseFieldDescriptor (T i).2.2.1 with
      | none => have h9 := hpd i hi2; rw [hp] at h9; cases h9
      | some t => exact (State.fieldFound?_type hib hp).1
    rw [e1, e2]
    exact Ne.symm (hnm i hi2 hne hne2)
  refine W.putFinK hx hb hown (hts _ hl) hi hst hcf hin2 (by rw [q2]; exact h6) q1 q3 (by rw [hsl]; exact k2_hasslot (q4 k hkN)) rfl rfl hdg fun H' e1 e2 e3 => ?_
  rw [hsl] at e1 ⊢
  have hN9 := gN_100 ci hci
  rw [eN] at hN9
  refine kk H' _ (hR.step e2 e3 (fun _ _ _ => rfl) (fun _ _ _ => rfl) (fun f b hb => ?_) (fun _ _ => rfl) (fun _ _ => rfl) (fun _ _ => rfl) ?_) (hS.put e2 e3 (hR.ge (by rw [hk]; exact fun h => by cases h)))
  · unfold dupX
    split
    · rw [i_up_a hb, i_up_a hb]
    · rw [i_up_a hb]
  · unfold rs_at
    rw [hk]
    refine ⟨hci, ?_⟩
    rw [eN]
    refine ⟨_, e1, q2, q3, fun i hi2 => ?_⟩
    by_cases hik : i = k
    · subst hik
      rw [Cell.slots_setSlot_self _ (k2_hasslot (q4 i hi2))]
      have : dupX G ci i j a v X (fid ci i) a = v := by
        unfold dupX
        split <;> rw [i_up_self]
      simp [gfv, hft, this]
    · by_cases hij : i = j
      · subst hij
        by_cases hs : G.1.2 ci k = G.1.2 ci i
        · rw [← hs, Cell.slots_setSlot_self _ (k2_hasslot (q4 k hkN))]
          have : dupX G ci k i a v X (fid ci i) a = v := by
            unfold dupX
            rw [if_pos hs, i_up_f (fun h => hik (fid_inj hci (by omega) (by omega) h)), i_up_self]
          simp [gfv, hft2, this]
        · rw [slot_ne _ _ hs, q4 i hi2]
          have : dupX G ci k i a v X (fid ci i) a = X (fid ci i) a := by
            unfold dupX
            rw [if_neg hs, i_up_f (fun h => hik (fid_inj hci (by omega) (by omega) h))]
          simp only [gfv, hft2, this]
      · rw [slot_ne _ _ (hap i hi2 hik hij), q4 i hi2]
        have : dupX G ci k j a v X (fid ci i) a = X (fid ci i) a := by
          unfold dupX
          split
          · rw [i_up_f (fun h => hik (fid_inj hci (by omega) (by omega) h)), i_up_f (fun h => hij (fid_inj hci (by omega) (by omega) h))]
          · rw [i_up_f (fun h => hik (fid_inj hci (by omega) (by omega) h))]
        simp only [gfv, this]
/-- both writes: the slots no longer matter -/
theorem dup2 {G : gG} {ci k j a : Nat} {v : Option Nat} {X : gX} (h : fid ci j ≠ fid ci k) : dupX G ci j k a v (dupX G ci k j a v X) = i_up (i_up X (fid ci k) a v) (fid ci j) a v := by
  funext f b
  unfold dupX
  by_cases hb : b = a
  · subst hb
    by_cases h1 : f = fid ci j
    · subst h1
      split <;> rw [i_up_self, i_up_self]
    · by_cases h2 : f = fid ci k
      · subst h2
        rw [i_up_f h1 (I := i_up X (fid ci k) b v), i_up_self]
        split
        · rw [i_up_f h1, i_up_self]
        · rw [i_up_f h1]
          split <;> rw [i_up_self]
      · rw [i_up_f h1, i_up_f h2]
        split
        · rw [i_up_f h1, i_up_f h2]
          split
          · rw [i_up_f h2, i_up_f h1]
          · rw [i_up_f h2]
        · rw [i_up_f h1]
          split
          · rw [i_up_f h2, i_up_f h1]
          · rw [i_up_f h2]
  · rw [i_up_a hb, i_up_a hb]
    split
    · rw [i_up_a hb, i_up_a hb]
      split
      · rw [i_up_a hb, i_up_a hb]
      · rw [i_up_a hb]
    · rw [i_up_a hb]
      split
      · rw [i_up_a hb, i_up_a hb]
      · rw [i_up_a hb]
/-- a ref field of any ref type -/
theorem g_putr {a k f : Nat} (hx : p.tables.exec = Jvm.exec) (hb : c.code = cc) (hts : ∀ w ∈ lw_all, w.before args s = true) (hown : s.vm.findClass own = some m.cls) (hG : GC G s) (hR : RS G K I J X A B Q H) (hS : va_S (gA G) H0 H locs) (hL : GPut own index ci k) (hf : fid ci k = f) (h3 : ft ci k = 2) (h4 : k < 100) (hk : K a = some (.inl ci)) {v : Option Nat} {ty : FieldType} (hd : parseFieldDescriptor (gT ci k).2.2.1 = some ty) (hty : (∃ C, ty = .object C) ∨ ∃ t, ty = .array t) (hdg : decode cc pc = .ok (.putfield index, 3))
    (kk : ∀ (H1 : Heap) (locs1 : List Loc), RS G K I J (i_up X f a v) A B Q H1 → va_S (gA G) H0 H1 locs1 → W p l e R s m args below meth c H1 locs1 cells slots Z (F0 m (pc + 3) ls rest)) : W p l e R s m args below meth c H locs cells slots Z (F0 m pc ls (va_rf v :: .ref a :: rest)) := by
  have hc := (hR.obj hk).1
  subst hf
  have h1 : narrow ty (va_rf v) = va_rf v ∧ fits ty (va_rf v) = true := by
    rcases hty with ⟨C, rfl⟩ | ⟨t, rfl⟩ <;> cases v <;> exact ⟨rfl, rfl⟩
  exact g_put0 hx hb hts hown hG hR hS hL hk hd h1.1 h1.2 hdg fun H1 locs1 hz hO oq hS1 => kk H1 locs1 (g_put1 hR hk hz oq hO (fun j hj => gfv_upx hc (Nat.lt_of_lt_of_le hj (gN_100 ci hc)) h4 h3) (fun _ _ _ => rfl) (fun _ _ _ => rfl) (fun f b hb => i_up_a hb)) hS1
end GH
theorem gT_0 : GPut RJ0 7 1 0 := ⟨⟨RX2, TX2, 8, "java/lang/Throwable", rfl, by decide, in_X2, Or.inl q196, Or.inl rfl⟩, by decide +kernel, by decide +kernel, pd_1⟩
theorem gT_1 : GPut RJ0 17 1 1 := ⟨⟨RX2, TX2, 8, "java/lang/Throwable", rfl, by decide, in_X2, Or.inl q197, Or.inl rfl⟩, by decide +kernel, by decide +kernel, pd_1⟩
theorem gT_2 : GPut RJ0 24 1 2 := ⟨⟨RX2, TX2, 8, "java/lang/Throwable", rfl, by decide, in_X2, Or.inl q198, Or.inl rfl⟩, by decide +kernel, by decide +kernel, pd_1⟩
theorem gT_3 : GPut RJ0 31 1 3 := ⟨⟨RX2, TX2, 8, "java/lang/Throwable", rfl, by decide, in_X2, Or.inl q195, Or.inl rfl⟩, by decide +kernel, by decide +kernel, pd_1⟩
/-- all default -/
theorem lk0 {l : List (Nat × Nat × Option Nat)} {X : gX} {n L : Nat} (h : ∀ f i, (lkf l f i).getD none = none) : bm none X n L l = bm none X n L [] := by
  funext f a
  unfold bm
  split
  · rw [h]; rfl
  · rfl
theorem iJ0 (l : Launch) (G : gG) (K : gK) (I : gI) (J : gJ) (X : gX) (A : gI) (B : gJ) (Q : gX) (n : Nat) : GMetX l yJ0_init_2 cJ0_init_2 5 none 1 12 G [.ref n, .null, .null, .int 0, .int 0] (bK K n [.inl 1]) (bm 0 I n 1 []) (bm 0 J n 1 []) (bm none X n 1 []) (ba z0 A n 1 []) (ba z1 B n 1 []) (ba z2 Q n 1 []) (.inr none) (bK K n [.inl 1]) (bm 0 I n 1 []) (bm 0 J n 1 []) (bm none X n 1 []) (ba z0 A n 1 []) (ba z1 B n 1 []) (ba z2 Q n 1 []) 0 0 := by
  refine GMetX.of (y := yJ0_init_2) rfl (Nat.le_of_ble_eq_true rfl) rfl ?_
  intro p e s m below meth c ls hx hb hr hml hlocks hts hown hname ht hG hR hW hl
  have hown : s.vm.findClass "java/lang/Throwable" = some m.cls := hown
  have hS : va_S (gA G) s.heap s.heap [] := va_S.rf
  have hk : bK K n [.inl 1] n = some (.inl 1) := bK_at (n := n) (i := 0) rfl
  refine lv_aload_n hx hb dJ0_init_2_0 rfl (lv_at hl 0 rfl) ?_
  refine b_obj hx hb hown hts (hml.trans hl.1.symm) q166 (Nat.le_of_ble_eq_true rfl) (Nat.le_of_ble_eq_true rfl) dJ0_init_2_1 ?_
  refine lv_aload_n hx hb dJ0_init_2_4 rfl (lv_at hl 0 rfl) ?_
  refine lv_aload_n hx hb dJ0_init_2_5 rfl (lv_at hl 0 rfl) ?_
  refine g_putr (v := some n) hx hb hts hown hG hR hS gT_0 rfl rfl (by decide) hk (ty := .object "java/lang/Throwable") (by decide +kernel) (Or.inl ⟨_, rfl⟩) dJ0_init_2_6 (fun H locs hR hS => ?_)
  refine lv_aload_n hx hb dJ0_init_2_9 rfl (lv_at hl 0 rfl) ?_
  have key : ∀ (v1 v2 : Option Nat), va_Z Bundle.tN "SUPPRESSED_SENTINEL" Bundle.listD (va_rf v2) (gA G) s s.heap → W p l e ({ frames := 1, cells := 0, slots := 0, locals := 12 } : Room) s m ([.ref n, .null, .null, .int 0, .int 0] : List Value).toArray below meth c H locs 0 0 (vx_MQ below (xQ G (.inr none) (bK K n [.inl 1]) (bm 0 I n 1 []) (bm 0 J n 1 []) (bm none X n 1 []) (ba z0 A n 1 []) (ba z1 B n 1 []) (ba z2 Q n 1 [])) (xX G (.inr none) (bK K n [.inl 1]) (bm 0 I n 1 []) (bm 0 J n 1 []) (bm none X n 1 []) (ba z0 A n 1 []) (ba z1 B n 1 []) (ba z2 Q n 1 [])) ([.ref n, .null, .null, .int 0, .int 0] : List Value).toArray s 0 0 (gA G)) (F0 m 13 ls [va_rf v1, .ref n]) := by
    intro v1 v2 hZ2
    refine g_putr (v := v1) hx hb hts hown hG hR hS gT_1 rfl rfl (by decide) hk (ty := .array (.object "java/lang/StackTraceElement")) (by decide +kernel) (Or.inr ⟨_, rfl⟩) dJ0_init_2_13 (fun H locs hR hS => ?_)
    refine lv_aload_n hx hb dJ0_init_2_16 rfl (lv_at hl 0 rfl) ?_
    refine va_gets hx hb hZ2 hS hown (hts _ q169) (fun x h => h) dJ0_init_2_17 ?_
    refine g_putr (v := v2) hx hb hts hown hG hR hS gT_2 rfl rfl (by decide) hk (ty := .object "java/util/List") (by decide +kernel) (Or.inl ⟨_, rfl⟩) dJ0_init_2_20 (fun H locs hR hS => ?_)
    refine lv_iload hx hb dJ0_init_2_23 (lv_at hl 4 rfl) ?_
    refine lv_if_eq (tgt := 36) hx hb dJ0_init_2_25 (by decide) (fun c1 => ?_) (fun c1 => absurd rfl c1)
    refine lv_aload_n hx hb dJ0_init_2_36 rfl (lv_at hl 0 rfl) ?_
    refine lv_null hx hb dJ0_init_2_37 ?_
    refine g_putr (v := none) hx hb hts hown hG hR hS gT_1 rfl rfl (by decide) hk (ty := .array (.object "java/lang/StackTraceElement")) (by decide +kernel) (Or.inr ⟨_, rfl⟩) dJ0_init_2_38 (fun H locs hR hS => ?_)
    refine lv_aload_n hx hb dJ0_init_2_41 rfl (lv_at hl 0 rfl) ?_
    refine lv_aload_nN hx hb dJ0_init_2_42 rfl (lv_at hl 1 rfl) ?_
    refine g_putr (v := none) hx hb hts hown hG hR hS gT_3 rfl rfl (by decide) hk (ty := .object "java/lang/String") (by decide +kernel) (Or.inl ⟨_, rfl⟩) dJ0_init_2_43 (fun H locs hR hS => ?_)
    refine lv_aload_n hx hb dJ0_init_2_46 rfl (lv_at hl 0 rfl) ?_
    refine lv_aload_nN hx hb dJ0_init_2_47 rfl (lv_at hl 2 rfl) ?_
    refine g_putr (v := none) hx hb hts hown hG hR hS gT_0 rfl rfl (by decide) hk (ty := .object "java/lang/Throwable") (by decide +kernel) (Or.inl ⟨_, rfl⟩) dJ0_init_2_48 (fun H locs hR hS => ?_)
    refine lv_iload_n hx hb dJ0_init_2_51 rfl (lv_at hl 3 rfl) ?_
    refine lv_if_ne (tgt := 60) hx hb dJ0_init_2_52 (by decide) (fun c1 => absurd rfl c1) (fun c1 => ?_)
    refine lv_aload_n hx hb dJ0_init_2_55 rfl (lv_at hl 0 rfl) ?_
    refine lv_null hx hb dJ0_init_2_56 ?_
    refine g_putr (v := none) hx hb hts hown hG hR hS gT_2 rfl rfl (by decide) hk (ty := .object "java/util/List") (by decide +kernel) (Or.inl ⟨_, rfl⟩) dJ0_init_2_57 (fun H locs hR hS => ?_)
    have e9 : ∀ (f : Nat) (v : Option Nat) (l : List (Nat × Nat × Option Nat)), i_up (bm none X n 1 l) f n v = bm none X n 1 ((f, 0, v) :: l) := fun f v l => bm_put (i := 0) (by decide)
    rw [e9, e9, e9, e9, e9, e9, e9, lk0 (by
      intro f i
      show (cond (Nat.beq 102 f && Nat.beq 0 i) _ (cond (Nat.beq 100 f && Nat.beq 0 i) _ (cond (Nat.beq 103 f && Nat.beq 0 i) _ (cond (Nat.beq 101 f && Nat.beq 0 i) _ (cond (Nat.beq 102 f && Nat.beq 0 i) _ (cond (Nat.beq 101 f && Nat.beq 0 i) _ (cond (Nat.beq 100 f && Nat.beq 0 i) _ none)))))) : Option (Option Nat)).getD none = none
      cases Nat.beq 102 f && Nat.beq 0 i <;> cases Nat.beq 100 f && Nat.beq 0 i <;> cases Nat.beq 103 f && Nat.beq 0 i <;> cases Nat.beq 101 f && Nat.beq 0 i <;> rfl)] at hR
    exact x_vret hx hb hr hlocks hG hR hS rfl dJ0_init_2_60
  have k2 : ∀ (v1 : Option Nat), W p l e ({ frames := 1, cells := 0, slots := 0, locals := 12 } : Room) s m ([.ref n, .null, .null, .int 0, .int 0] : List Value).toArray below meth c H locs 0 0 (vx_MQ below (xQ G (.inr none) (bK K n [.inl 1]) (bm 0 I n 1 []) (bm 0 J n 1 []) (bm none X n 1 []) (ba z0 A n 1 []) (ba z1 B n 1 []) (ba z2 Q n 1 [])) (xX G (.inr none) (bK K n [.inl 1]) (bm 0 I n 1 []) (bm 0 J n 1 []) (bm none X n 1 []) (ba z0 A n 1 []) (ba z1 B n 1 []) (ba z2 Q n 1 [])) ([.ref n, .null, .null, .int 0, .int 0] : List Value).toArray s 0 0 (gA G)) (F0 m 13 ls [va_rf v1, .ref n]) := by
    intro v1
    rcases hW.2.2.2.2.2.1 with hZ | ⟨t, hZ⟩
    · exact key v1 none hZ
    · exact key v1 (some t) hZ
  rcases hW.2.2.2.2.1.1 with hZ | ⟨t, hZ⟩
  · exact va_gets hx hb hZ hS hown (hts _ q167) (fun x h => h) dJ0_init_2_10 (k2 none)
  · exact va_gets hx hb hZ hS hown (hts _ q167) (fun x h => h) dJ0_init_2_10 (k2 (some t))
theorem iJ1 (l : Launch) (G : gG) (K : gK) (I : gI) (J : gJ) (X : gX) (A : gI) (B : gJ) (Q : gX) (n : Nat) : GMetX l yJ1_init cJ1_init 5 none 2 36 G [.ref n, .null, .null, .int 0, .int 0] (bK K n [.inl 1]) (bm 0 I n 1 []) (bm 0 J n 1 []) (bm none X n 1 []) (ba z0 A n 1 []) (ba z1 B n 1 []) (ba z2 Q n 1 []) (.inr none) (bK K n [.inl 1]) (bm 0 I n 1 []) (bm 0 J n 1 []) (bm none X n 1 []) (ba z0 A n 1 []) (ba z1 B n 1 []) (ba z2 Q n 1 []) 0 0 := by
  refine GMetX.of (y := yJ1_init) rfl (Nat.le_of_ble_eq_true rfl) rfl ?_
  intro p e s m below meth c ls hx hb hr hml hlocks hts hown hname ht hG hR hW hl
  have hown : s.vm.findClass "java/lang/Exception" = some m.cls := hown
  have hS : va_S (gA G) s.heap s.heap [] := va_S.rf
  refine lv_aload_n hx hb dJ1_init_0 rfl (lv_at hl 0 rfl) ?_
  refine lv_aload_nN hx hb dJ1_init_1 rfl (lv_at hl 1 rfl) ?_
  refine lv_aload_nN hx hb dJ1_init_2 rfl (lv_at hl 2 rfl) ?_
  refine lv_iload_n hx hb dJ1_init_3 rfl (lv_at hl 3 rfl) ?_
  refine lv_iload hx hb dJ1_init_4 (lv_at hl 4 rfl) ?_
  refine x_gor (vx_runI (As := [.null, .null, .int 0, .int 0]) (rest := []) (b := n) ⟨hx, hb, hml, hown, hts⟩ (iJ0 l G K I J X A B Q n) ⟨callB_of 4 hts (lw_meth q189) rfl rfl rfl (hts _ q104) (hts _ q187) (by decide +kernel) ⟨Nat.le_of_ble_eq_true rfl, Nat.le_of_ble_eq_true rfl⟩, rfl, hts _ q188⟩ (x_preS hG hR hW hS) rfl rfl hl.1 rfl (lv_room (Nat.le_of_ble_eq_true rfl)) dJ1_init_6 ⟨Nat.le_refl _, Nat.le_refl _⟩) hS (fun H locs hR hS => ?_)
  exact x_vret hx hb hr hlocks hG hR hS rfl dJ1_init_9
theorem i2 (l : Launch) (G : gG) (K : gK) (I : gI) (J : gJ) (X : gX) (A : gI) (B : gJ) (Q : gX) (n : Nat) (hF : fresh G K n) : GMetX l yX2_init cX2_init 1 none 3 60 G [.ref n] (bK K n [.inl 1]) (bm 0 I n 1 []) (bm 0 J n 1 []) (bm none X n 1 []) (ba z0 A n 1 []) (ba z1 B n 1 []) (ba z2 Q n 1 []) (.inr none) (bK K n [.inl 1]) (bm 0 I n 1 []) (bm 0 J n 1 []) (bm none X n 1 []) (ba z0 A n 1 []) (ba z1 B n 1 []) (ba z2 Q n 1 []) 0 0 := by
  refine GMetX.of (y := yX2_init) rfl (Nat.le_of_ble_eq_true rfl) rfl ?_
  intro p e s m below meth c ls hx hb hr hml hlocks hts hown hname ht hG hR hW hl
  have hown : s.vm.findClass "PailRow$Fault" = some m.cls := hown
  have hS : va_S (gA G) s.heap s.heap [] := va_S.rf
  refine lv_aload_n hx hb dX2_init_0 rfl (lv_at hl 0 rfl) ?_
  refine lv_null hx hb dX2_init_1 ?_
  refine lv_null hx hb dX2_init_2 ?_
  refine lv_iconst (v := 0) hx hb dX2_init_3 (by decide) ?_
  refine lv_iconst (v := 0) hx hb dX2_init_4 (by decide) ?_
  refine x_gor (vx_runI (As := [.null, .null, .int 0, .int 0]) (rest := []) (b := n) ⟨hx, hb, hml, hown, hts⟩ (iJ1 l G K I J X A B Q n) ⟨callB_of 4 hts (lw_meth q186) rfl rfl rfl (hts _ q105) (hts _ q184) (by decide +kernel) ⟨Nat.le_of_ble_eq_true rfl, Nat.le_of_ble_eq_true rfl⟩, rfl, hts _ q185⟩ (x_preS hG hR hW hS) rfl rfl hl.1 rfl (lv_room (Nat.le_of_ble_eq_true rfl)) dX2_init_5 ⟨Nat.le_refl _, Nat.le_refl _⟩) hS (fun H locs hR hS => ?_)
  exact x_vret hx hb hr hlocks hG hR hS rfl dX2_init_8
theorem gh_5_o : GFin2 RX7 3 5 9 7 := ⟨RX7, TX7, 10, rfl, by decide, by decide, by decide, in_X7, q388, rfl, rfl, by decide +kernel, pd_5, by decide +kernel, rfl, rfl⟩
theorem gh_5_r : GFin2 RX6 3 5 7 9 := ⟨RX7, TX7, 10, rfl, by decide, by decide, by decide, in_X7, q414, rfl, rfl, by decide +kernel, pd_5, by decide +kernel, rfl, rfl⟩
theorem gh_5_m : GFin RX6 15 5 0 := ⟨RX7, TX7, 10, rfl, by decide, in_X7, q389, rfl, rfl, by decide +kernel, pd_5⟩
theorem i6_5 (l : Launch) (G : gG) (K : gK) (I : gI) (J : gJ) (X : gX) (A : gI) (B : gJ) (Q : gX) (n o : Nat) (mx : Int32) : GMet l yX6_init cX6_init 3 none 1 12 G [.ref n, .ref o, .int mx] (bK K n [.inl 5]) (bm 0 I n 1 []) (bm 0 J n 1 []) (dupX G 5 9 7 n (some o) (bm none X n 1 [])) (ba z0 A n 1 []) (ba z1 B n 1 []) (ba z2 Q n 1 []) none (bK K n [.inl 5]) (bm 0 I n 1 [(500, 0, mx)]) (bm 0 J n 1 []) (bm none X n 1 [(507, 0, some o), (509, 0, some o)]) (ba z0 A n 1 []) (ba z1 B n 1 []) (ba z2 Q n 1 []) 0 0 := by
  refine GMet.of (y := yX6_init) rfl (Nat.le_of_ble_eq_true rfl) rfl ?_
  intro p e s m below meth c ls hx hb hr hml hlocks hts hown hname hG hR hl
  have hown : s.vm.findClass RX6 = some m.cls := hown
  have hS : va_S (gA G) s.heap s.heap [] := va_S.rf
  have hk : bK K n [.inl 5] n = some (.inl 5) := bK_at (n := n) (i := 0) rfl
  refine lv_aload_n hx hb dX6_init_0 rfl (lv_at hl 0 rfl) ?_
  refine lv_aload_n hx hb dX6_init_1 rfl (lv_at hl 1 rfl) ?_
  refine g_putT (v := some o) hx hb hts hown hname hG hR hS gh_5_r hk dX6_init_2 (fun H locs hR hS => ?_)
  rw [dup2 (by decide)] at hR
  have e9 : ∀ (f : Nat) (v : Option Nat) (l : List (Nat × Nat × Option Nat)), i_up (bm none X n 1 l) f n v = bm none X n 1 ((f, 0, v) :: l) := fun f v l => bm_put (i := 0) (by decide)
  rw [e9, e9] at hR
  refine lv_aload_n hx hb dX6_init_5 rfl (lv_at hl 0 rfl) ?_
  refine b_obj hx hb hown hts (hml.trans hl.1.symm) q386 (Nat.le_of_ble_eq_true rfl) (Nat.le_of_ble_eq_true rfl) dX6_init_6 ?_
  refine lv_aload_n hx hb dX6_init_9 rfl (lv_at hl 0 rfl) ?_
  refine lv_iload_n hx hb dX6_init_10 rfl (lv_at hl 2 rfl) ?_
  refine g_putFi (f := 500) hx hb hts hown hname hG hR hS gh_5_m rfl rfl hk (by decide +kernel) dX6_init_11 (fun H locs _ hR hS => ?_)
  rw [show i_up (bm 0 I n 1 []) 500 n mx = bm 0 I n 1 [(500, 0, mx)] from bm_put (i := 0) (by decide)] at hR
  exact g_vret hx hb hr hlocks hG hR hS rfl dX6_init_14
def KS_i7 : List (Nat ⊕ (Nat × Nat)) := [.inl 5]
def LI_i7 : List (Nat × Nat × Int32) := [(500, 0, (700 : Int32))]
def LJ_i7 : List (Nat × Nat × Int64) := []
def LX_i7 (n o : Nat) : List (Nat × Nat × Option Nat) := [(507, 0, some o), (509, 0, some o)]
def LA_i7 : List (Nat × (Nat → Int32)) := []
def LQ_i7 (G : gG) (n : Nat) : List (Nat × (Nat → Option Nat)) := []
theorem io_i7 (G : gG) (n o : Nat) : (∀ e ∈ LI_i7, e.2.1 < 1) ∧ (∀ e ∈ LJ_i7, e.2.1 < 1) ∧ (∀ e ∈ LX_i7 n o, e.2.1 < 1) ∧ (∀ e ∈ LA_i7, e.1 < 1) ∧ (∀ e ∈ ([] : List (Nat × (Nat → Int64))), e.1 < 1) ∧ ∀ e ∈ LQ_i7 G n, e.1 < 1 := ⟨ofl_ok rfl, ofl_ok rfl, ofl_ok rfl, ofa_ok rfl, nofun, ofa_ok rfl⟩
theorem i7 (l : Launch) (G : gG) (K : gK) (I : gI) (J : gJ) (X : gX) (A : gI) (B : gJ) (Q : gX) (n : Nat) (hF : fresh G K n) (o : Nat) : GMet l yX7_init cX7_init 2 none 2 34 G [.ref n, .ref o] (bK K n [.inl 5]) (bm 0 I n 1 []) (bm 0 J n 1 []) (bm none X n 1 []) (ba z0 A n 1 []) (ba z1 B n 1 []) (ba z2 Q n 1 []) none (bK K n KS_i7) (bm 0 I n 1 LI_i7) (bm 0 J n 1 LJ_i7) (bm none X n 1 (LX_i7 n o)) (ba z0 A n 1 LA_i7) (ba z1 B n 1 []) (ba z2 Q n 1 (LQ_i7 G n)) 0 0 := by
  refine GMet.of (y := yX7_init) rfl (Nat.le_of_ble_eq_true rfl) rfl ?_
  intro p e s m below meth c ls hx hb hr hml hlocks hts hown hname hG hR hl
  have hown : s.vm.findClass RX7 = some m.cls := hown
  have hS : va_S (gA G) s.heap s.heap [] := va_S.rf
  have hz : G.2.2 ≤ s.heap.size := Nat.le_of_lt (Nat.lt_of_le_of_lt hF.1 (hR.lt (a := n) (by rw [show bK K n [.inl 5] n = some (.inl 5) from bK_at (n := n) (i := 0) rfl]; exact fun h => by cases h)))
  have hk : bK K n [.inl 5] n = some (.inl 5) := bK_at (n := n) (i := 0) rfl
  refine lv_aload_n hx hb dX7_init_0 rfl (lv_at hl 0 rfl) ?_
  refine lv_aload_n hx hb dX7_init_1 rfl (lv_at hl 1 rfl) ?_
  refine g_putT (v := some o) hx hb hts hown hname hG hR hS gh_5_o hk dX7_init_2 (fun H locs hR hS => ?_)
  refine lv_aload_n hx hb dX7_init_5 rfl (lv_at hl 0 rfl) ?_
  refine lv_aload_n hx hb dX7_init_6 rfl (lv_at hl 1 rfl) ?_
  refine lv_sipush (v := 700) hx hb dX7_init_7 (by decide) ?_
  refine g_cI (rm := (1, 12)) (As := [.ref o, .int 700]) (rest := []) (b := n) (mc := 0) (ms := 0) ⟨hx, hb, hml, hown, hts⟩ hG hR hS (i6_5 l G K I J X A B Q n o 700) ⟨callB_of 2 hts (lw_meth q385) rfl rfl rfl (hts _ q110) (hts _ q383) (by decide +kernel) ⟨Nat.le_of_ble_eq_true rfl, Nat.le_of_ble_eq_true rfl⟩, rfl, hts _ q384⟩ rfl hl.1 (Nat.le_of_ble_eq_true rfl) dX7_init_10 ⟨Nat.le_of_ble_eq_true rfl, Nat.le_of_ble_eq_true rfl⟩ rfl (fun H locs hR hS => ?_)
  exact g_vret hx hb hr hlocks hG hR hS rfl dX7_init_13
theorem gh_6_o : GFin2 RX8 3 6 9 7 := ⟨RX8, TX8, 10, rfl, by decide, by decide, by decide, in_X8, q443, rfl, rfl, by decide +kernel, pd_6, by decide +kernel, rfl, rfl⟩
theorem gh_6_r : GFin2 RX6 3 6 7 9 := ⟨RX8, TX8, 10, rfl, by decide, by decide, by decide, in_X8, q414, rfl, rfl, by decide +kernel, pd_6, by decide +kernel, rfl, rfl⟩
theorem gh_6_m : GFin RX6 15 6 0 := ⟨RX8, TX8, 10, rfl, by decide, in_X8, q389, rfl, rfl, by decide +kernel, pd_6⟩
theorem i6_6 (l : Launch) (G : gG) (K : gK) (I : gI) (J : gJ) (X : gX) (A : gI) (B : gJ) (Q : gX) (n o : Nat) (mx : Int32) : GMet l yX6_init cX6_init 3 none 1 12 G [.ref n, .ref o, .int mx] (bK K n [.inl 6]) (bm 0 I n 1 []) (bm 0 J n 1 []) (dupX G 6 9 7 n (some o) (bm none X n 1 [])) (ba z0 A n 1 []) (ba z1 B n 1 []) (ba z2 Q n 1 []) none (bK K n [.inl 6]) (bm 0 I n 1 [(600, 0, mx)]) (bm 0 J n 1 []) (bm none X n 1 [(607, 0, some o), (609, 0, some o)]) (ba z0 A n 1 []) (ba z1 B n 1 []) (ba z2 Q n 1 []) 0 0 := by
  refine GMet.of (y := yX6_init) rfl (Nat.le_of_ble_eq_true rfl) rfl ?_
  intro p e s m below meth c ls hx hb hr hml hlocks hts hown hname hG hR hl
  have hown : s.vm.findClass RX6 = some m.cls := hown
  have hS : va_S (gA G) s.heap s.heap [] := va_S.rf
  have hk : bK K n [.inl 6] n = some (.inl 6) := bK_at (n := n) (i := 0) rfl
  refine lv_aload_n hx hb dX6_init_0 rfl (lv_at hl 0 rfl) ?_
  refine lv_aload_n hx hb dX6_init_1 rfl (lv_at hl 1 rfl) ?_
  refine g_putT (v := some o) hx hb hts hown hname hG hR hS gh_6_r hk dX6_init_2 (fun H locs hR hS => ?_)
  rw [dup2 (by decide)] at hR
  have e9 : ∀ (f : Nat) (v : Option Nat) (l : List (Nat × Nat × Option Nat)), i_up (bm none X n 1 l) f n v = bm none X n 1 ((f, 0, v) :: l) := fun f v l => bm_put (i := 0) (by decide)
  rw [e9, e9] at hR
  refine lv_aload_n hx hb dX6_init_5 rfl (lv_at hl 0 rfl) ?_
  refine b_obj hx hb hown hts (hml.trans hl.1.symm) q386 (Nat.le_of_ble_eq_true rfl) (Nat.le_of_ble_eq_true rfl) dX6_init_6 ?_
  refine lv_aload_n hx hb dX6_init_9 rfl (lv_at hl 0 rfl) ?_
  refine lv_iload_n hx hb dX6_init_10 rfl (lv_at hl 2 rfl) ?_
  refine g_putFi (f := 600) hx hb hts hown hname hG hR hS gh_6_m rfl rfl hk (by decide +kernel) dX6_init_11 (fun H locs _ hR hS => ?_)
  rw [show i_up (bm 0 I n 1 []) 600 n mx = bm 0 I n 1 [(600, 0, mx)] from bm_put (i := 0) (by decide)] at hR
  exact g_vret hx hb hr hlocks hG hR hS rfl dX6_init_14
def KS_i8 : List (Nat ⊕ (Nat × Nat)) := [.inl 6]
def LI_i8 : List (Nat × Nat × Int32) := [(600, 0, (400 : Int32))]
def LJ_i8 : List (Nat × Nat × Int64) := []
def LX_i8 (n o : Nat) : List (Nat × Nat × Option Nat) := [(607, 0, some o), (609, 0, some o)]
def LA_i8 : List (Nat × (Nat → Int32)) := []
def LQ_i8 (G : gG) (n : Nat) : List (Nat × (Nat → Option Nat)) := []
theorem io_i8 (G : gG) (n o : Nat) : (∀ e ∈ LI_i8, e.2.1 < 1) ∧ (∀ e ∈ LJ_i8, e.2.1 < 1) ∧ (∀ e ∈ LX_i8 n o, e.2.1 < 1) ∧ (∀ e ∈ LA_i8, e.1 < 1) ∧ (∀ e ∈ ([] : List (Nat × (Nat → Int64))), e.1 < 1) ∧ ∀ e ∈ LQ_i8 G n, e.1 < 1 := ⟨ofl_ok rfl, ofl_ok rfl, ofl_ok rfl, ofa_ok rfl, nofun, ofa_ok rfl⟩
theorem i8 (l : Launch) (G : gG) (K : gK) (I : gI) (J : gJ) (X : gX) (A : gI) (B : gJ) (Q : gX) (n : Nat) (hF : fresh G K n) (o : Nat) : GMet l yX8_init cX8_init 2 none 2 34 G [.ref n, .ref o] (bK K n [.inl 6]) (bm 0 I n 1 []) (bm 0 J n 1 []) (bm none X n 1 []) (ba z0 A n 1 []) (ba z1 B n 1 []) (ba z2 Q n 1 []) none (bK K n KS_i8) (bm 0 I n 1 LI_i8) (bm 0 J n 1 LJ_i8) (bm none X n 1 (LX_i8 n o)) (ba z0 A n 1 LA_i8) (ba z1 B n 1 []) (ba z2 Q n 1 (LQ_i8 G n)) 0 0 := by
  refine GMet.of (y := yX8_init) rfl (Nat.le_of_ble_eq_true rfl) rfl ?_
  intro p e s m below meth c ls hx hb hr hml hlocks hts hown hname hG hR hl
  have hown : s.vm.findClass RX8 = some m.cls := hown
  have hS : va_S (gA G) s.heap s.heap [] := va_S.rf
  have hz : G.2.2 ≤ s.heap.size := Nat.le_of_lt (Nat.lt_of_le_of_lt hF.1 (hR.lt (a := n) (by rw [show bK K n [.inl 6] n = some (.inl 6) from bK_at (n := n) (i := 0) rfl]; exact fun h => by cases h)))
  have hk : bK K n [.inl 6] n = some (.inl 6) := bK_at (n := n) (i := 0) rfl
  refine lv_aload_n hx hb dX8_init_0 rfl (lv_at hl 0 rfl) ?_
  refine lv_aload_n hx hb dX8_init_1 rfl (lv_at hl 1 rfl) ?_
  refine g_putT (v := some o) hx hb hts hown hname hG hR hS gh_6_o hk dX8_init_2 (fun H locs hR hS => ?_)
  refine lv_aload_n hx hb dX8_init_5 rfl (lv_at hl 0 rfl) ?_
  refine lv_aload_n hx hb dX8_init_6 rfl (lv_at hl 1 rfl) ?_
  refine lv_sipush (v := 400) hx hb dX8_init_7 (by decide) ?_
  refine g_cI (rm := (1, 12)) (As := [.ref o, .int 400]) (rest := []) (b := n) (mc := 0) (ms := 0) ⟨hx, hb, hml, hown, hts⟩ hG hR hS (i6_6 l G K I J X A B Q n o 400) ⟨callB_of 2 hts (lw_meth q385) rfl rfl rfl (hts _ q110) (hts _ q441) (by decide +kernel) ⟨Nat.le_of_ble_eq_true rfl, Nat.le_of_ble_eq_true rfl⟩, rfl, hts _ q384⟩ rfl hl.1 (Nat.le_of_ble_eq_true rfl) dX8_init_10 ⟨Nat.le_of_ble_eq_true rfl, Nat.le_of_ble_eq_true rfl⟩ rfl (fun H locs hR hS => ?_)
  exact g_vret hx hb hr hlocks hG hR hS rfl dX8_init_13
theorem gh_10_o : GFin2 RX13 3 10 10 7 := ⟨RX13, TX13, 11, rfl, by decide, by decide, by decide, in_X13, q623, rfl, rfl, by decide +kernel, pd_10, by decide +kernel, rfl, rfl⟩
theorem gh_10_r : GFin2 RX6 3 10 7 10 := ⟨RX13, TX13, 11, rfl, by decide, by decide, by decide, in_X13, q414, rfl, rfl, by decide +kernel, pd_10, by decide +kernel, rfl, rfl⟩
theorem gh_10_m : GFin RX6 15 10 0 := ⟨RX13, TX13, 11, rfl, by decide, in_X13, q389, rfl, rfl, by decide +kernel, pd_10⟩
theorem i6_10 (l : Launch) (G : gG) (K : gK) (I : gI) (J : gJ) (X : gX) (A : gI) (B : gJ) (Q : gX) (n o : Nat) (mx : Int32) : GMet l yX6_init cX6_init 3 none 1 12 G [.ref n, .ref o, .int mx] (bK K n [.inl 10]) (bm 0 I n 1 []) (bm 0 J n 1 []) (dupX G 10 10 7 n (some o) (bm none X n 1 [])) (ba z0 A n 1 []) (ba z1 B n 1 []) (ba z2 Q n 1 []) none (bK K n [.inl 10]) (bm 0 I n 1 [(1000, 0, mx)]) (bm 0 J n 1 []) (bm none X n 1 [(1007, 0, some o), (1010, 0, some o)]) (ba z0 A n 1 []) (ba z1 B n 1 []) (ba z2 Q n 1 []) 0 0 := by
  refine GMet.of (y := yX6_init) rfl (Nat.le_of_ble_eq_true rfl) rfl ?_
  intro p e s m below meth c ls hx hb hr hml hlocks hts hown hname hG hR hl
  have hown : s.vm.findClass RX6 = some m.cls := hown
  have hS : va_S (gA G) s.heap s.heap [] := va_S.rf
  have hk : bK K n [.inl 10] n = some (.inl 10) := bK_at (n := n) (i := 0) rfl
  refine lv_aload_n hx hb dX6_init_0 rfl (lv_at hl 0 rfl) ?_
  refine lv_aload_n hx hb dX6_init_1 rfl (lv_at hl 1 rfl) ?_
  refine g_putT (v := some o) hx hb hts hown hname hG hR hS gh_10_r hk dX6_init_2 (fun H locs hR hS => ?_)
  rw [dup2 (by decide)] at hR
  have e9 : ∀ (f : Nat) (v : Option Nat) (l : List (Nat × Nat × Option Nat)), i_up (bm none X n 1 l) f n v = bm none X n 1 ((f, 0, v) :: l) := fun f v l => bm_put (i := 0) (by decide)
  rw [e9, e9] at hR
  refine lv_aload_n hx hb dX6_init_5 rfl (lv_at hl 0 rfl) ?_
  refine b_obj hx hb hown hts (hml.trans hl.1.symm) q386 (Nat.le_of_ble_eq_true rfl) (Nat.le_of_ble_eq_true rfl) dX6_init_6 ?_
  refine lv_aload_n hx hb dX6_init_9 rfl (lv_at hl 0 rfl) ?_
  refine lv_iload_n hx hb dX6_init_10 rfl (lv_at hl 2 rfl) ?_
  refine g_putFi (f := 1000) hx hb hts hown hname hG hR hS gh_10_m rfl rfl hk (by decide +kernel) dX6_init_11 (fun H locs _ hR hS => ?_)
  rw [show i_up (bm 0 I n 1 []) 1000 n mx = bm 0 I n 1 [(1000, 0, mx)] from bm_put (i := 0) (by decide)] at hR
  exact g_vret hx hb hr hlocks hG hR hS rfl dX6_init_14
theorem gh_10_c : GFin RX13 27 10 8 := ⟨RX13, TX13, 11, rfl, by decide, in_X13, q620, rfl, rfl, by decide +kernel, pd_10⟩
def KS_i13 : List (Nat ⊕ (Nat × Nat)) := [.inl 10, .inr (8, 5)]
def LI_i13 : List (Nat × Nat × Int32) := [(1000, 0, (200 : Int32))]
def LJ_i13 : List (Nat × Nat × Int64) := []
def LX_i13 (n o : Nat) : List (Nat × Nat × Option Nat) := [(1008, 0, some (n + 1)), (1007, 0, some o), (1010, 0, some o)]
def LA_i13 : List (Nat × (Nat → Int32)) := []
def LQ_i13 (G : gG) (n : Nat) : List (Nat × (Nat → Option Nat)) := [(1, va_up (va_up (va_up (va_up (va_up (z2) (0 : Int32).toNatClampNeg (some (aK G 24))) (1 : Int32).toNatClampNeg (some (aK G 25))) (2 : Int32).toNatClampNeg (some (aK G 26))) (3 : Int32).toNatClampNeg (some (aK G 27))) (4 : Int32).toNatClampNeg (some (aK G 28))), (1, va_up (va_up (va_up (va_up (z2) (0 : Int32).toNatClampNeg (some (aK G 24))) (1 : Int32).toNatClampNeg (some (aK G 25))) (2 : Int32).toNatClampNeg (some (aK G 26))) (3 : Int32).toNatClampNeg (some (aK G 27))), (1, va_up (va_up (va_up (z2) (0 : Int32).toNatClampNeg (some (aK G 24))) (1 : Int32).toNatClampNeg (some (aK G 25))) (2 : Int32).toNatClampNeg (some (aK G 26))), (1, va_up (va_up (z2) (0 : Int32).toNatClampNeg (some (aK G 24))) (1 : Int32).toNatClampNeg (some (aK G 25))), (1, va_up (z2) (0 : Int32).toNatClampNeg (some (aK G 24)))]
theorem io_i13 (G : gG) (n o : Nat) : (∀ e ∈ LI_i13, e.2.1 < 2) ∧ (∀ e ∈ LJ_i13, e.2.1 < 2) ∧ (∀ e ∈ LX_i13 n o, e.2.1 < 2) ∧ (∀ e ∈ LA_i13, e.1 < 2) ∧ (∀ e ∈ ([] : List (Nat × (Nat → Int64))), e.1 < 2) ∧ ∀ e ∈ LQ_i13 G n, e.1 < 2 := ⟨ofl_ok rfl, ofl_ok rfl, ofl_ok rfl, ofa_ok rfl, nofun, ofa_ok rfl⟩
theorem i13 (l : Launch) (G : gG) (K : gK) (I : gI) (J : gJ) (X : gX) (A : gI) (B : gJ) (Q : gX) (n : Nat) (hF : fresh G K n) (o : Nat) : GMetX l yX13_init cX13_init 2 none 2 34 G [.ref n, .ref o] (bK K n [.inl 10]) (bm 0 I n 1 []) (bm 0 J n 1 []) (bm none X n 1 []) (ba z0 A n 1 []) (ba z1 B n 1 []) (ba z2 Q n 1 []) (.inr none) (bK K n KS_i13) (bm 0 I n 2 LI_i13) (bm 0 J n 2 LJ_i13) (bm none X n 2 (LX_i13 n o)) (ba z0 A n 2 LA_i13) (ba z1 B n 2 []) (ba z2 Q n 2 (LQ_i13 G n)) 1 5 := by
  refine GMetX.of (y := yX13_init) rfl (Nat.le_of_ble_eq_true rfl) rfl ?_
  intro p e s m below meth c ls hx hb hr hml hlocks hts hown hname ht hG hR hW hl
  have hown : s.vm.findClass RX13 = some m.cls := hown
  have hS : va_S (gA G) s.heap s.heap [] := va_S.rf
  have hz : G.2.2 ≤ s.heap.size := Nat.le_of_lt (Nat.lt_of_le_of_lt hF.1 (hR.lt (a := n) (by rw [show bK K n [.inl 10] n = some (.inl 10) from bK_at (n := n) (i := 0) rfl]; exact fun h => by cases h)))
  have hk : bK K n [.inl 10] n = some (.inl 10) := bK_at (n := n) (i := 0) rfl
  refine lv_aload_n hx hb dX13_init_0 rfl (lv_at hl 0 rfl) ?_
  refine lv_aload_n hx hb dX13_init_1 rfl (lv_at hl 1 rfl) ?_
  refine g_putT (v := some o) hx hb hts hown hname hG hR hS gh_10_o hk dX13_init_2 (fun H locs hR hS => ?_)
  refine lv_aload_n hx hb dX13_init_5 rfl (lv_at hl 0 rfl) ?_
  refine lv_aload_n hx hb dX13_init_6 rfl (lv_at hl 1 rfl) ?_
  refine lv_sipush (v := 200) hx hb dX13_init_7 (by decide) ?_
  refine g_cI (rm := (1, 12)) (As := [.ref o, .int 200]) (rest := []) (b := n) (mc := 0) (ms := 0) ⟨hx, hb, hml, hown, hts⟩ hG hR hS (i6_10 l G K I J X A B Q n o 200) ⟨callB_of 2 hts (lw_meth q385) rfl rfl rfl (hts _ q110) (hts _ q613) (by decide +kernel) ⟨Nat.le_of_ble_eq_true rfl, Nat.le_of_ble_eq_true rfl⟩, rfl, hts _ q384⟩ rfl hl.1 (Nat.le_of_ble_eq_true rfl) dX13_init_10 ⟨Nat.le_of_ble_eq_true rfl, Nat.le_of_ble_eq_true rfl⟩ rfl (fun H locs hR hS => ?_)
  have hB0 : BR G K I J X A B Q n 1 [.inl 10] [(1000, 0, (200 : Int32))] [] [(1007, 0, some o), (1010, 0, some o)] [] [] [] H := ⟨hF, rfl, ⟨ofl_ok rfl, nofun, ofl_ok rfl, nofun, nofun, nofun⟩, hR⟩
  refine lv_aload_n hx hb dX13_init_13 rfl (lv_at hl 0 rfl) ?_
  refine lv_iconst (v := 5) hx hb dX13_init_14 (by decide) ?_
  refine b_newq (t := 4) hx hb hown (hts _ q614) (hG.2 _ q213 rfl) hG hB0 hS hz rfl (by decide) (N := 5) (by decide) (Nat.le_of_ble_eq_true rfl) (Nat.le_of_ble_eq_true rfl) (Nat.le_of_ble_eq_true rfl) dX13_init_15 (fun H hB1 hS => ?_)
  refine lv_dup hx hb dX13_init_18 rfl ?_
  refine lv_iconst (v := 0) hx hb dX13_init_19 (by decide) ?_
  refine b_ldcS (k := 24) (tx := "minute") hx hb hown hW (by decide) dX13_init_20 ?_
  refine b_aastS (i := 1) hx hb hG hW hB1 hS rfl (Nat.le_of_ble_eq_true rfl) (show inb 0 _ by decide) rfl dX13_init_22 (fun H locs hB2 hS => ?_)
  refine lv_dup hx hb dX13_init_23 rfl ?_
  refine lv_iconst (v := 1) hx hb dX13_init_24 (by decide) ?_
  refine b_ldcS (k := 25) (tx := "thrown") hx hb hown hW (by decide) dX13_init_25 ?_
  refine b_aastS (i := 1) hx hb hG hW hB2 hS rfl (Nat.le_of_ble_eq_true rfl) (show inb 1 _ by decide) rfl dX13_init_27 (fun H locs hB3 hS => ?_)
  refine lv_dup hx hb dX13_init_28 rfl ?_
  refine lv_iconst (v := 2) hx hb dX13_init_29 (by decide) ?_
  refine b_ldcS (k := 26) (tx := "lost") hx hb hown hW (by decide) dX13_init_30 ?_
  refine b_aastS (i := 1) hx hb hG hW hB3 hS rfl (Nat.le_of_ble_eq_true rfl) (show inb 2 _ by decide) rfl dX13_init_32 (fun H locs hB4 hS => ?_)
  refine lv_dup hx hb dX13_init_33 rfl ?_
  refine lv_iconst (v := 3) hx hb dX13_init_34 (by decide) ?_
  refine b_ldcS (k := 27) (tx := "burns") hx hb hown hW (by decide) dX13_init_35 ?_
  refine b_aastS (i := 1) hx hb hG hW hB4 hS rfl (Nat.le_of_ble_eq_true rfl) (show inb 3 _ by decide) rfl dX13_init_37 (fun H locs hB5 hS => ?_)
  refine lv_dup hx hb dX13_init_38 rfl ?_
  refine lv_iconst (v := 4) hx hb dX13_init_39 (by decide) ?_
  refine b_ldcS (k := 28) (tx := "water") hx hb hown hW (by decide) dX13_init_40 ?_
  refine b_aastS (i := 1) hx hb hG hW hB5 hS rfl (Nat.le_of_ble_eq_true rfl) (show inb 4 _ by decide) rfl dX13_init_42 (fun H locs hB6 hS => ?_)
  refine b_putFx (i := 0) (v := some (n + 1)) (ty := .array (.object "java/lang/String")) hx hb hts hown hname hG hB6 hS gh_10_c rfl rfl rfl (by decide +kernel) (Or.inr ⟨_, rfl⟩) dX13_init_43 (fun H locs hB7 hS => ?_)
  have hB : BR G K I J X A B Q n 2 KS_i13 LI_i13 LJ_i13 (LX_i13 n o) LA_i13 [] (LQ_i13 G n) H := hB7
  exact x_vret hx hb hr hlocks hG hB.2.2.2 hS rfl dX13_init_46
def KS_i2 : List (Nat ⊕ (Nat × Nat)) := [.inl 1]
def LI_i2 : List (Nat × Nat × Int32) := []
def LJ_i2 : List (Nat × Nat × Int64) := []
def LX_i2 (n : Nat) : List (Nat × Nat × Option Nat) := []
def LA_i2 : List (Nat × (Nat → Int32)) := []
def LQ_i2 (G : gG) (n : Nat) : List (Nat × (Nat → Option Nat)) := []
theorem io_i2 (G : gG) (n : Nat) : (∀ e ∈ LI_i2, e.2.1 < 1) ∧ (∀ e ∈ LJ_i2, e.2.1 < 1) ∧ (∀ e ∈ LX_i2 n, e.2.1 < 1) ∧ (∀ e ∈ LA_i2, e.1 < 1) ∧ (∀ e ∈ ([] : List (Nat × (Nat → Int64))), e.1 < 1) ∧ ∀ e ∈ LQ_i2 G n, e.1 < 1 := ⟨nofun, nofun, nofun, nofun, nofun, nofun⟩
