/-! NEW CELLS over the heap layer -/
set_option maxRecDepth 100000
/-- a map with one address cleared -/
def zc {α : Type} (I : Nat → Nat → α) (q : Nat) (d : α) : Nat → Nat → α := fun f a => if a = q then d else I f a
theorem zc_self {α : Type} {I : Nat → Nat → α} {q f : Nat} {d : α} : zc I q d f q = d := by simp [zc]
theorem zc_ne {α : Type} {I : Nat → Nat → α} {q f a : Nat} {d : α} (h : a ≠ q) : zc I q d f a = I f a := by simp [zc, h]
/-- a field's value in a new object -/
def gdv (s : Nat) : Value := match s with
  | 0 => .int 0
  | 1 => .long 0
  | _ => .null
theorem RS.born {G : gG} {K : gK} {I I' : gI} {J J' : gJ} {X X' : gX} {A A' : gI} {B B' : gJ} {Q Q' : gX} {H H1 : Heap} {q : Nat} {κ : Nat ⊕ (Nat × Nat)} (h : RS G K I J X A B Q H) (hq : q = H.size) (hz1 : H1.size = q + 1) (hz : G.2.2 ≤ q) (o1 : ∀ x, x < H.size → H1[x]? = H[x]?)
    (e1 : ∀ f b, b ≠ q → I' f b = I f b) (e2 : ∀ f b, b ≠ q → J' f b = J f b) (e3 : ∀ f b, b ≠ q → X' f b = X f b) (e4 : ∀ b, b ≠ q → A' b = A b) (e5 : ∀ b, b ≠ q → B' b = B b) (e6 : ∀ b, b ≠ q → Q' b = Q b)
    (ha : rs_at G (a_up K q (some κ)) I' J' X' A' B' Q' H1 q) : RS G (a_up K q (some κ)) I' J' X' A' B' Q' H1 := by
  intro b
  by_cases hb : b = q
  · subst hb
    exact ⟨ha, fun _ => hz, fun _ _ => by rw [a_up_self]; exact fun h => by cases h⟩
  · refine ⟨?_, fun hk => (h b).2.1 (by rw [a_up_ne hb] at hk; exact hk), fun h1 h2 => by rw [a_up_ne hb]; exact (h b).2.2 h1 (by omega)⟩
    cases hK : K b with
    | none =>
      unfold rs_at
      rw [a_up_ne hb, hK]
      trivial
    | some κ' =>
      have hlt : b < H.size := h.lt (by rw [hK]; exact fun h => by cases h)
      have h1 := (h b).1.kept (H1 := H1) (I' := I') (J' := J') (X' := X') (A' := A') (B' := B') (Q' := Q') (o1 b hlt) (fun f => e1 f b hb) (fun f => e2 f b hb) (fun f => e3 f b hb) (e4 b hb) (e5 b hb) (e6 b hb)
      unfold rs_at at h1 ⊢
      rw [a_up_ne hb]
      exact h1
section GNEW
variable {p : Program} {l : Launch} {e : Env} {R : Room} {s : State} {m : MethodId} {args : Array Value} {below : List Frame} {meth : Method} {c : Code} {H H0 : Heap} {locs : List Loc} {cells slots : Nat} {Z : State → Prop}
variable {cc : ByteArray} {pc n : Nat} {ls : Array Slot} {rest : List Value} {G : gG} {K : gK} {I : gI} {J : gJ} {X : gX} {A : gI} {B : gJ} {Q : gX} {index ci : Nat} {own C : String}
theorem g_new {T : u_T} {N : Nat} (hx : p.tables.exec = Jvm.exec) (hb : c.code = cc) (hts : ∀ w ∈ lw_all, w.before args s = true) (hin : ∀ w ∈ u_ws C T N, w ∈ lw_all) (ty : Nat → FieldType) (hty : ∀ k, k < N → parseFieldDescriptor (T k).2.2.1 = some (ty k)) (hown : s.vm.findClass own = some m.cls) (hcl : (Cond.classLink own index C).before args s = true) (hinst : (Cond.instantiable C N).before args s = true) (hini : (Cond.initialized C).before args s = true)
    (hG : GC G s) (hR : RS G K I J X A B Q H) (hS : va_S (gA G) H0 H locs) (hz : G.2.2 ≤ H0.size) (hc : gCl[ci]? = some (C, T, N)) (hci : ci < 20) (hfs : ∀ j, j < N → defaultValue (ty j) = gdv (ft ci j)) (hcells : cells + 1 ≤ R.cells) (hslots : slots + N ≤ R.slots) (hdg : decode cc pc = .ok (.new index, 3))
    (kk : ∀ (q : Nat) (H1 : Heap), q = H.size → H1.size = q + 1 → RS G (a_up K q (some (.inl ci))) (zc I q 0) (zc J q 0) (zc X q none) A B Q H1 → va_S (gA G) H0 H1 locs →
      W p l e R s m args below meth c H1 locs (cells + 1) (slots + N) Z (F0 m (pc + 3) ls (.ref q :: rest))) : W p l e R s m args below meth c H locs cells slots Z (F0 m pc ls rest) := by
  have hKn := hG.1.1 ci _ hc
  refine W.newcK hx hb hown hcl hinst hini rfl hdg hcells hslots hKn.2.1 rfl fun H1 kC hkC e1 z1 o1 => ?_
  refine kk H.size H1 rfl z1 (hR.born rfl z1 (Nat.le_trans hz hS.1) o1 (fun f b hb => zc_ne hb) (fun f b hb => zc_ne hb) (fun f b hb => zc_ne hb) (fun _ _ => rfl) (fun _ _ => rfl) (fun _ _ => rfl) ?_) ⟨Nat.le_trans hS.1 (by omega), fun x h1 h2 => (o1 x (Nat.lt_of_lt_of_le h1 hS.1)).trans (hS.2.1 x h1 h2), hS.2.2⟩
  unfold rs_at
  rw [a_up_self]
  refine ⟨hci, ?_⟩
  rw [(gT_of hc).2]
  refine (u_born ty hts hin hKn hkC e1 hty).to fun k hk => ?_
  rw [hfs k hk]
  unfold gfv gdv
  split <;> simp_all [zc_self, va_rf]
theorem g_newa {atype : ArrayType} {t : Nat} (hx : p.tables.exec = Jvm.exec) (hb : c.code = cc) (harr : (Cond.arrayClass (newarray.typeOf atype)).before args s = true) (hG : GC G s) (hR : RS G K I J X A B Q H) (hS : va_S (gA G) H0 H locs) (hz : G.2.2 ≤ H0.size) (ht3 : t < 3) (ht : (gtys G.2.1)[t]? = some (G.2.1 t, newarray.typeOf atype)) (hpr : ∀ C, newarray.typeOf atype ≠ .object C) (hdf : defaultValue (newarray.typeOf atype) = .int 0)
    {i : Int32} {N : Nat} (hn : ¬ i < 0) (hN : i.toNatClampNeg = N) (hbytes : N * componentBytes (newarray.typeOf atype) ≤ 536870912) (hcells : cells + 1 ≤ R.cells) (hslots : slots + N ≤ R.slots) (hdg : decode cc pc = .ok (.newarray atype, 2))
    (kk : ∀ (q : Nat) (H1 : Heap), q = H.size → H1.size = q + 1 → RS G (a_up K q (some (.inr (t, N)))) I J X (a_up A q (fun _ => 0)) B Q H1 → va_S (gA G) H0 H1 locs →
      W p l e R s m args below meth c H1 locs (cells + 1) (slots + N) Z (F0 m (pc + 2) ls (.ref q :: rest))) : W p l e R s m args below meth c H locs cells slots Z (F0 m pc ls (.int i :: rest)) := by
  refine va_newaK hx hb harr rfl hdg rfl hn hN hbytes hcells hslots rfl fun H1 cA e1 z1 o1 hAr hNm => ?_
  have hcA : cA = G.2.1 t := by
    have h1 := (hG.1.2 t _ ht).2
    cases hty : newarray.typeOf atype <;> first | (exact absurd hty (hpr _)) | (rw [hty] at h1 hNm; exact Option.some.inj (hNm.symm.trans h1))
  refine kk H.size H1 rfl z1 (hR.born rfl z1 (Nat.le_trans hz hS.1) o1 (fun _ _ _ => rfl) (fun _ _ _ => rfl) (fun _ _ _ => rfl) (fun b hb => a_up_ne hb) (fun _ _ => rfl) (fun _ _ => rfl) ?_) ⟨Nat.le_trans hS.1 (by omega), fun x h1 h2 => (o1 x (Nat.lt_of_lt_of_le h1 hS.1)).trans (hS.2.1 x h1 h2), hS.2.2⟩
  unfold rs_at
  rw [a_up_self]
  show H1[H.size]? = some (vp_cell (G.2.1 t) (garr _ B Q t N H.size))
  rw [e1, hcA, hdf]
  match t, ht3 with
  | 0, _ => simp only [garr, a_up_self]; rfl
  | 1, _ => simp only [garr, a_up_self]; rfl
  | 2, _ => simp only [garr, a_up_self]; rfl
  | t + 3, h => omega
theorem g_newal (hx : p.tables.exec = Jvm.exec) (hb : c.code = cc) (harr : (Cond.arrayClass (newarray.typeOf .long)).before args s = true) (hG : GC G s) (hR : RS G K I J X A B Q H) (hS : va_S (gA G) H0 H locs) (hz : G.2.2 ≤ H0.size)
    {i : Int32} {N : Nat} (hn : ¬ i < 0) (hN : i.toNatClampNeg = N) (hbytes : N * componentBytes (newarray.typeOf .long) ≤ 536870912) (hcells : cells + 1 ≤ R.cells) (hslots : slots + N ≤ R.slots) (hdg : decode cc pc = .ok (.newarray .long, 2))
    (kk : ∀ (q : Nat) (H1 : Heap), q = H.size → H1.size = q + 1 → RS G (a_up K q (some (.inr (3, N)))) I J X A (a_up B q (fun _ => 0)) Q H1 → va_S (gA G) H0 H1 locs →
      W p l e R s m args below meth c H1 locs (cells + 1) (slots + N) Z (F0 m (pc + 2) ls (.ref q :: rest))) : W p l e R s m args below meth c H locs cells slots Z (F0 m pc ls (.int i :: rest)) := by
  refine va_newaK hx hb harr rfl hdg rfl hn hN hbytes hcells hslots rfl fun H1 cA e1 z1 o1 hAr hNm => ?_
  have hcA : cA = G.2.1 3 := by
    have h1 := (hG.1.2 3 _ rfl).2
    exact Option.some.inj (hNm.symm.trans h1)
  refine kk H.size H1 rfl z1 (hR.born rfl z1 (Nat.le_trans hz hS.1) o1 (fun _ _ _ => rfl) (fun _ _ _ => rfl) (fun _ _ _ => rfl) (fun _ _ => rfl) (fun b hb => a_up_ne hb) (fun _ _ => rfl) ?_) ⟨Nat.le_trans hS.1 (by omega), fun x h1 h2 => (o1 x (Nat.lt_of_lt_of_le h1 hS.1)).trans (hS.2.1 x h1 h2), hS.2.2⟩
  unfold rs_at
  rw [a_up_self]
  show H1[H.size]? = some (vp_cell (G.2.1 3) (garr A _ Q 3 N H.size))
  rw [e1, hcA]
  simp only [garr, a_up_self]
  rfl
theorem g_newq {t : Nat} (hx : p.tables.exec = Jvm.exec) (hb : c.code = cc) (hown : s.vm.findClass own = some m.cls) (hclink : (Cond.classLink own index C).before args s = true) (hover : va_AO C s) (hG : GC G s) (hR : RS G K I J X A B Q H) (hS : va_S (gA G) H0 H locs) (hz : G.2.2 ≤ H0.size) (ht : (gtys G.2.1)[t + 4]? = some (G.2.1 (t + 4), .object C))
    {i : Int32} {N : Nat} (hn : ¬ i < 0) (hN : i.toNatClampNeg = N) (hbytes : N * 4 ≤ 536870912) (hcells : cells + 1 ≤ R.cells) (hslots : slots + N ≤ R.slots) (hdg : decode cc pc = .ok (.anewarray index, 3))
    (kk : ∀ (q : Nat) (H1 : Heap), q = H.size → H1.size = q + 1 → RS G (a_up K q (some (.inr (t + 4, N)))) I J X A B (a_up Q q (fun _ => none)) H1 → va_S (gA G) H0 H1 locs →
      W p l e R s m args below meth c H1 locs (cells + 1) (slots + N) Z (F0 m (pc + 3) ls (.ref q :: rest))) : W p l e R s m args below meth c H locs cells slots Z (F0 m pc ls (.int i :: rest)) := by
  subst hN
  refine W.anew hx hb hown hclink (va_AO.use hover) rfl hdg rfl hn hbytes hcells hslots fun cA kA comp f1 f2 f3 f4 => ?_
  generalize hH1 : H.push ({ cls := cA, slots := Array.replicate i.toNatClampNeg .null, vm := .none } : Cell) = H1
  have z1 : H1.size = H.size + 1 := by rw [← hH1, Array.size_push]
  have e1 : H1[H.size]? = some (arrV cA i.toNatClampNeg (fun _ => .null)) := by rw [← hH1, Array.getElem?_push_size, ← arrV_new]
  have o1 : ∀ q : Nat, q < H.size → H1[q]? = H[q]? := fun q hq => by rw [← hH1, Array.getElem?_push, if_neg (Nat.ne_of_lt hq)]
  have hcA : cA = G.2.1 (t + 4) := by
    obtain ⟨kA2, comp2, k1, k2, k3, k4⟩ := (hG.1.2 (t + 4) _ ht).2
    exact Option.some.inj (f1.symm.trans k4)
  refine kk H.size H1 rfl z1 (hR.born rfl z1 (Nat.le_trans hz hS.1) o1 (fun _ _ _ => rfl) (fun _ _ _ => rfl) (fun _ _ _ => rfl) (fun _ _ => rfl) (fun _ _ => rfl) (fun b hb => a_up_ne hb) ?_) ⟨Nat.le_trans hS.1 (by omega), fun x h1 h2 => (o1 x (Nat.lt_of_lt_of_le h1 hS.1)).trans (hS.2.1 x h1 h2), hS.2.2⟩
  unfold rs_at
  rw [a_up_self]
  show H1[H.size]? = some (vp_cell (G.2.1 (t + 4)) (garr A B _ (t + 4) i.toNatClampNeg H.size))
  rw [e1, hcA]
  simp only [garr, a_up_self]
  rfl
/-- a final field in its class's constructor -/
def GFin (own : String) (index ci k : Nat) : Prop := ∃ (C : String) (T : u_T) (N : Nat), gCl[ci]? = some (C, T, N) ∧ k < N ∧ (∀ w ∈ u_ws C T N, w ∈ lw_all) ∧ Cond.fieldLink own index (T k).1 (T k).2.1 (T k).2.2.1 ∈ lw_all ∧ (T k).2.2.2 = true ∧ (T k).1 = own ∧
  (∀ j, j < N → j ≠ k → (T j).2.1 ≠ (T k).2.1) ∧ (∀ j, j < N → (parseFieldDescriptor (T j).2.2.1).isSome = true)
theorem g_putF0 {a k : Nat} (hx : p.tables.exec = Jvm.exec) (hb : c.code = cc) (hts : ∀ w ∈ lw_all, w.before args s = true) (hown : s.vm.findClass own = some m.cls) (hin2 : meth.name = "<init>") (hG : GC G s) (hR : RS G K I J X A B Q H) (hS : va_S (gA G) H0 H locs) (hL : GFin own index ci k) (hk : K a = some (.inl ci)) {ty : FieldType} {v : Value}
    (hd : parseFieldDescriptor (gT ci k).2.2.1 = some ty) (hn : narrow ty v = v) (hfit : fits ty v = true) (hdg : decode cc pc = .ok (.putfield index, 3))
    (kk : ∀ (H1 : Heap) (locs1 : List Loc), H1.size = H.size → t_OB a (G.1.1 ci) (gN ci) (G.1.2 ci) H1 (updV (fun j => gfv I J X ci j a) k v) → (∀ q, q ≠ a → H1[q]? = H[q]?) → va_S (gA G) H0 H1 locs1 → W p l e R s m args below meth c H1 locs1 cells slots Z (F0 m (pc + 3) ls rest)) : W p l e R s m args below meth c H locs cells slots Z (F0 m pc ls (v :: .ref a :: rest)) := by
  obtain ⟨C, T, N, hc, hkN, hin, hl, hfin, hdecl, hnm, hpd⟩ := hL
  obtain ⟨eT, eN⟩ := gT_of hc
  obtain ⟨-, cell, q1, q2, q3, q4⟩ := hR.obj hk
  rw [eN] at q4
  rw [eT] at hd
  obtain ⟨hSl, hfc, kC, hkC, hkind⟩ := hG.1.1 ci _ hc
  obtain ⟨cf, kf, fi, f, hi, hsl⟩ := hSl k hkN
  have hlay := hts _ (hin _ (u_in_lay hkN))
  unfold u_lay at hlay
  rw [if_pos hfin] at hlay
  have hst := (u_facts hfc hkC (u_lays hts hin hkN) hi).1
  have hcf : m.cls = cf := by
    obtain ⟨_, _, c', _, _, _, -, -, hf', -, -, -, hown2, -⟩ := Cond.laysFinal_spec hlay
    have e1 : c' = cf := by have := hi.symm.trans hf'; simp at this; exact this.1.symm
    rw [hdecl] at hown2
    rw [← e1]; exact Option.some.inj (hown.symm.trans hown2)
  have h6 := u_fits hfc hkC hkind (Or.inr hlay) hi hd hn hfit
  have hap : ∀ j, j < N → j ≠ k → G.1.2 ci k ≠ G.1.2 ci j := by
    intro j hj hne
    obtain ⟨_, _, _, fb, hib, eb⟩ := hSl j hj
    rw [← hsl, ← eb]
    refine u_apart (u_lays hts hin hkN) (u_lays hts hin hj) hi hib ?_
    have e1 : f.name = (T k).2.1 := (State.fieldFound?_type hi hd).1
    have e2 : fb.name = (T j).2.1 := by
      cases hp : parseFieldDescriptor (T j).2.2.1 with
      | none => have h9 := hpd j hj; rw [hp] at h9; cases h9
      | some t => exact (State.fieldFound?_type hib hp).1
    rw [e1, e2]
    exact Ne.symm (hnm j hj hne)
  refine W.putFinK hx hb hown (hts _ hl) hi hst hcf hin2 (by rw [q2]; exact h6) q1 q3 (by rw [hsl]; exact k2_hasslot (q4 k hkN)) rfl rfl hdg fun H' e1 e2 e3 => ?_
  rw [hsl] at e1 ⊢
  refine kk H' _ e2 ?_ e3 (hS.put e2 e3 (hR.ge (by rw [hk]; exact fun h => by cases h)))
  rw [eN]
  refine ⟨_, e1, q2, q3, fun j hj => ?_⟩
  by_cases hjk : j = k
  · subst hjk
    rw [Cell.slots_setSlot_self _ (k2_hasslot (q4 j hj))]
    simp [updV]
  · rw [slot_ne _ _ (hap j hj hjk), q4 j hj]
    simp [updV, hjk]
theorem g_putFi {a k f : Nat} (hx : p.tables.exec = Jvm.exec) (hb : c.code = cc) (hts : ∀ w ∈ lw_all, w.before args s = true) (hown : s.vm.findClass own = some m.cls) (hin2 : meth.name = "<init>") (hG : GC G s) (hR : RS G K I J X A B Q H) (hS : va_S (gA G) H0 H locs) (hL : GFin own index ci k) (hf : fid ci k = f) (hs : ft ci k = 0) (hk : K a = some (.inl ci)) {v : Int32}
    (hd : parseFieldDescriptor (gT ci k).2.2.1 = some .int) (hdg : decode cc pc = .ok (.putfield index, 3))
    (kk : ∀ (H1 : Heap) (locs1 : List Loc), H1.size = H.size → RS G K (i_up I f a v) J X A B Q H1 → va_S (gA G) H0 H1 locs1 → W p l e R s m args below meth c H1 locs1 cells slots Z (F0 m (pc + 3) ls rest)) : W p l e R s m args below meth c H locs cells slots Z (F0 m pc ls (.int v :: .ref a :: rest)) := by
  have hc := (hR.obj hk).1
  subst hf
  have hk9 : k < 100 := by
    obtain ⟨C, T, N, hc2, hkN, -⟩ := hL
    exact Nat.lt_of_lt_of_le hkN (by rw [← (gT_of hc2).2]; exact gN_100 ci hc)
  exact g_putF0 hx hb hts hown hin2 hG hR hS hL hk hd rfl rfl hdg fun H1 locs1 hz hO oq hS1 => kk H1 locs1 hz (g_put1 hR hk hz oq hO (fun j hj => gfv_upi hc (Nat.lt_of_lt_of_le hj (gN_100 ci hc)) hk9 hs) (fun f b hb => i_up_a hb) (fun _ _ _ => rfl) (fun _ _ _ => rfl)) hS1
theorem g_putFj {a k f : Nat} (hx : p.tables.exec = Jvm.exec) (hb : c.code = cc) (hts : ∀ w ∈ lw_all, w.before args s = true) (hown : s.vm.findClass own = some m.cls) (hin2 : meth.name = "<init>") (hG : GC G s) (hR : RS G K I J X A B Q H) (hS : va_S (gA G) H0 H locs) (hL : GFin own index ci k) (hf : fid ci k = f) (hs : ft ci k = 1) (hk : K a = some (.inl ci)) {v : Int64}
    (hd : parseFieldDescriptor (gT ci k).2.2.1 = some .long) (hdg : decode cc pc = .ok (.putfield index, 3))
    (kk : ∀ (H1 : Heap) (locs1 : List Loc), H1.size = H.size → RS G K I (i_up J f a v) X A B Q H1 → va_S (gA G) H0 H1 locs1 → W p l e R s m args below meth c H1 locs1 cells slots Z (F0 m (pc + 3) ls rest)) : W p l e R s m args below meth c H locs cells slots Z (F0 m pc ls (.long v :: .ref a :: rest)) := by
  have hc := (hR.obj hk).1
  subst hf
  have hk9 : k < 100 := by
    obtain ⟨C, T, N, hc2, hkN, -⟩ := hL
    exact Nat.lt_of_lt_of_le hkN (by rw [← (gT_of hc2).2]; exact gN_100 ci hc)
  exact g_putF0 hx hb hts hown hin2 hG hR hS hL hk hd rfl rfl hdg fun H1 locs1 hz hO oq hS1 => kk H1 locs1 hz (g_put1 hR hk hz oq hO (fun j hj => gfv_upj hc (Nat.lt_of_lt_of_le hj (gN_100 ci hc)) hk9 hs) (fun _ _ _ => rfl) (fun f b hb => i_up_a hb) (fun _ _ _ => rfl)) hS1
/-- a final ref: an object or an array -/
theorem g_putFx {a k f : Nat} (hx : p.tables.exec = Jvm.exec) (hb : c.code = cc) (hts : ∀ w ∈ lw_all, w.before args s = true) (hown : s.vm.findClass own = some m.cls) (hin2 : meth.name = "<init>") (hG : GC G s) (hR : RS G K I J X A B Q H) (hS : va_S (gA G) H0 H locs) (hL : GFin own index ci k) (hf : fid ci k = f) (hs : ft ci k = 2) (hk : K a = some (.inl ci)) {v : Option Nat} {ty : FieldType}
    (hd : parseFieldDescriptor (gT ci k).2.2.1 = some ty) (hty : (∃ C, ty = .object C) ∨ ∃ t, ty = .array t) (hdg : decode cc pc = .ok (.putfield index, 3))
    (kk : ∀ (H1 : Heap) (locs1 : List Loc), H1.size = H.size → RS G K I J (i_up X f a v) A B Q H1 → va_S (gA G) H0 H1 locs1 → W p l e R s m args below meth c H1 locs1 cells slots Z (F0 m (pc + 3) ls rest)) : W p l e R s m args below meth c H locs cells slots Z (F0 m pc ls (va_rf v :: .ref a :: rest)) := by
  have hc := (hR.obj hk).1
  subst hf
  have hk9 : k < 100 := by
    obtain ⟨C, T, N, hc2, hkN, -⟩ := hL
    exact Nat.lt_of_lt_of_le hkN (by rw [← (gT_of hc2).2]; exact gN_100 ci hc)
  have h1 : narrow ty (va_rf v) = va_rf v ∧ fits ty (va_rf v) = true := by
    rcases hty with ⟨C, rfl⟩ | ⟨t, rfl⟩ <;> cases v <;> exact ⟨rfl, rfl⟩
  exact g_putF0 hx hb hts hown hin2 hG hR hS hL hk hd h1.1 h1.2 hdg fun H1 locs1 hz hO oq hS1 => kk H1 locs1 hz (g_put1 hR hk hz oq hO (fun j hj => gfv_upx hc (Nat.lt_of_lt_of_le hj (gN_100 ci hc)) hk9 hs) (fun _ _ _ => rfl) (fun _ _ _ => rfl) (fun f b hb => i_up_a hb)) hS1
end GNEW
section GCI
variable {p : Program} {l : Launch} {e : Env} {R : Room} {s : State} {m : MethodId} {args : Array Value} {below : List Frame} {meth : Method} {c : Code} {H H0 : Heap} {locs : List Loc} {cells slots : Nat} {Z : State → Prop}
variable {cc code : ByteArray} {pc nL maxL n mc ms : Nat} {ls : Array Slot} {rest st0 As : List Value} {G : gG} {K K' : gK} {I I' : gI} {J J' : gJ} {X X' : gX} {A A' : gI} {B B' : gJ} {Q Q' : gX} {b index ci : Nat} {own host : String} {y : MethodName}
/-- a constructor -/
theorem g_cI {rm : Nat × Nat} (S : CallFix p m c cc nL s args lw_all own) (hG : GC G s) (hR : RS G K I J X A B Q H) (hS : va_S (gA G) H0 H locs)
    (hM : GMet l y code maxL none rm.1 rm.2 G (.ref b :: As) K I J X A B Q none K' I' J' X' A' B' Q' mc ms)
    (cw : CallB R s args own index y code maxL none (ws_ y code maxL none) ({ frames := rm.1, cells := mc, slots := ms, locals := rm.2 }) mc ms n ∧ y.name = "<init>" ∧ (Cond.instanceMethod y).before args s = true)
    (hn : As.length = n) (hsize : ls.size = nL) (hW : (rest.map fun v => v.category).sum ≤ 8) (hdg : decode cc pc = .ok (.invokespecial index, 3)) (hf : cells + mc ≤ R.cells ∧ slots + ms ≤ R.slots) (hstack : st0 = As.reverse ++ .ref b :: rest)
    (kk : ∀ (H1 : Heap) (locs1 : List Loc), RS G K' I' J' X' A' B' Q' H1 → va_S (gA G) H0 H1 locs1 → W p l e R s m args below meth c H1 locs1 (cells + mc) (slots + ms) Z (F0 m (pc + 3) ls rest)) : W p l e R s m args below meth c H locs cells slots Z (F0 m pc ls st0) :=
  g_run (va_runI S hM cw (g_preS hG hR) rfl hn hsize hstack (lv_room hW) hdg hf) hS kk
/-- a nest mate's private constructor -/
theorem g_cIN {rm : Nat × Nat} (S : CallFix p m c cc nL s args lw_all own) (hG : GC G s) (hR : RS G K I J X A B Q H) (hS : va_S (gA G) H0 H locs)
    (hM : GMet l y code maxL none rm.1 rm.2 G (.ref b :: As) K I J X A B Q none K' I' J' X' A' B' Q' mc ms)
    (cw : va_CN R s args own index y host code maxL none (ws_ y code maxL none) ({ frames := rm.1, cells := mc, slots := ms, locals := rm.2 }) mc ms n ∧ y.name = "<init>" ∧ (Cond.instanceMethod y).before args s = true)
    (hn : As.length = n) (hsize : ls.size = nL) (hW : (rest.map fun v => v.category).sum ≤ 8) (hdg : decode cc pc = .ok (.invokespecial index, 3)) (hf : cells + mc ≤ R.cells ∧ slots + ms ≤ R.slots) (hstack : st0 = As.reverse ++ .ref b :: rest)
    (kk : ∀ (H1 : Heap) (locs1 : List Loc), RS G K' I' J' X' A' B' Q' H1 → va_S (gA G) H0 H1 locs1 → W p l e R s m args below meth c H1 locs1 (cells + mc) (slots + ms) Z (F0 m (pc + 3) ls rest)) : W p l e R s m args below meth c H locs cells slots Z (F0 m pc ls st0) :=
  g_run (va_runIN S hM cw (g_preS hG hR) rfl hn hsize hstack (lv_room hW) hdg hf) hS kk
end GCI
