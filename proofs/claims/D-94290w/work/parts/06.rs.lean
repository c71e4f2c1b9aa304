/-! THE HEAP LAYER: the tracked heap as maps. K: what stands at an address; I, J, X: int, long, ref fields by field number and address; A, B, Q: arrays of ints (booleans, bytes), longs, refs by address -/
set_option maxRecDepth 100000
def TX20 : u_T := fun _ => ("PailRow$Out", "", "I", false)
abbrev gCl : List vw_C := [(RX1, TX1, 52), (RX2, TX2, 8), (RX3, TX3, 3), (RX4, TX4, 15), (RX5, TX5, 2), (RX7, TX7, 10), (RX8, TX8, 10), (RX10, TX10, 19), (RX11, TX11, 10), (RX12, TX12, 6), (RX13, TX13, 11), (RX14, TX14, 91), (RX15, TX15, 4), (RX16, TX16, 5), (RX18, TX18, 1), (RX19, TX19, 3), (RX20, TX20, 0), (RX21, TX21, 2), (RX22, TX22, 2), (RJ7, TJ7, 0)]
/-- a field's number, over all classes (an inherited one has one for each class) -/
def fid (ci k : Nat) : Nat := 100 * ci + k
theorem fid_inj {ci j k : Nat} (hc : ci < 20) (hj : j < 100) (hk : k < 100) (h : fid ci j = fid ci k) : j = k := by
  unfold fid at h
  omega
abbrev gK : Type := Nat → Option (Nat ⊕ (Nat × Nat))
abbrev gI : Type := Nat → Nat → Int32
abbrev gJ : Type := Nat → Nat → Int64
abbrev gX : Type := Nat → Nat → Option Nat
abbrev gG : Type := va_G × (Nat → ClassId) × Nat
/-- a field's sort: 0 int, 1 long, 2 ref -/
def gso (d : String) : Nat := if d = "I" ∨ d = "Z" ∨ d = "B" ∨ d = "S" ∨ d = "C" then 0 else if d = "J" then 1 else 2
def gT (ci k : Nat) : String × String × String × Bool := match gCl[ci]? with
  | some r => r.2.1 k
  | none => ("", "", "", false)
def gN (ci : Nat) : Nat := match gCl[ci]? with
  | some r => r.2.2
  | none => 0
def ft (ci k : Nat) : Nat := gso (gT ci k).2.2.1
def gtys (cA : Nat → ClassId) : List (ClassId × FieldType) := [(cA 0, .int), (cA 1, .boolean), (cA 2, .byte), (cA 3, .long), (cA 4, .object "PailRow$Man"), (cA 5, .object "PailRow$Thing"), (cA 6, .object "PailRow$Barn"), (cA 7, .object "PailRow$State"), (cA 8, .object "java/lang/String"), (cA 9, .array .int)]
def garr (A : gI) (B : gJ) (Q : gX) (t n a : Nat) : vp_A := match t with
  | 0 => (n, .inl (A a))
  | 1 => (n, .inl (A a))
  | 2 => (n, .inl (A a))
  | 3 => (n, .inr (.inl (B a)))
  | _ => (n, .inr (.inr (.inr (.inr (Q a)))))
def gfv (I : gI) (J : gJ) (X : gX) (ci k a : Nat) : Value := match ft ci k with
  | 0 => .int (I (fid ci k) a)
  | 1 => .long (J (fid ci k) a)
  | _ => va_rf (X (fid ci k) a)
def rs_at (G : gG) (K : gK) (I : gI) (J : gJ) (X : gX) (A : gI) (B : gJ) (Q : gX) (H : Heap) (a : Nat) : Prop := match K a with
  | none => True
  | some (.inl ci) => ci < 20 ∧ t_OB a (G.1.1 ci) (gN ci) (G.1.2 ci) H (fun k => gfv I J X ci k a)
  | some (.inr q) => H[a]? = some (vp_cell (G.2.1 q.1) (garr A B Q q.1 q.2 a))
/-- the picture of the heap -/
def RS (G : gG) (K : gK) (I : gI) (J : gJ) (X : gX) (A : gI) (B : gJ) (Q : gX) (H : Heap) : Prop := ∀ a, rs_at G K I J X A B Q H a ∧ (K a ≠ none → G.2.2 ≤ a) ∧ (G.2.2 ≤ a → a < H.size → K a ≠ none)
/-- the addresses that a method may change -/
abbrev gA (G : gG) : Nat → Prop := fun q => G.2.2 ≤ q
def i_up {α : Type} (I : Nat → Nat → α) (f a : Nat) (v : α) : Nat → Nat → α := fun g => if g = f then (fun b => if b = a then v else I g b) else I g
def a_up {α : Type} (A : Nat → α) (a : Nat) (v : α) : Nat → α := fun b => if b = a then v else A b
theorem i_up_self {α : Type} {I : Nat → Nat → α} {f a : Nat} {v : α} : i_up I f a v f a = v := by simp [i_up]
theorem i_up_f {α : Type} {I : Nat → Nat → α} {f g a b : Nat} {v : α} (h : g ≠ f) : i_up I f a v g b = I g b := by simp [i_up, h]
theorem i_up_a {α : Type} {I : Nat → Nat → α} {f g a b : Nat} {v : α} (h : b ≠ a) : i_up I f a v g b = I g b := by
  unfold i_up
  split
  · simp [h]
  · rfl
theorem a_up_self {α : Type} {A : Nat → α} {a : Nat} {v : α} : a_up A a v a = v := by simp [a_up]
theorem a_up_ne {α : Type} {A : Nat → α} {a b : Nat} {v : α} (h : b ≠ a) : a_up A a v b = A b := by simp [a_up, h]
theorem rs_at.kept {G : gG} {K : gK} {I I' : gI} {J J' : gJ} {X X' : gX} {A A' : gI} {B B' : gJ} {Q Q' : gX} {H H1 : Heap} {a : Nat} (h : rs_at G K I J X A B Q H a) (hq : H1[a]? = H[a]?)
    (e1 : ∀ f, I' f a = I f a) (e2 : ∀ f, J' f a = J f a) (e3 : ∀ f, X' f a = X f a) (e4 : A' a = A a) (e5 : B' a = B a) (e6 : Q' a = Q a) : rs_at G K I' J' X' A' B' Q' H1 a := by
  unfold rs_at at h ⊢
  split at h
  · trivial
  · refine ⟨h.1, (h.2.kept hq).to fun k _ => ?_⟩
    simp only [gfv, e1, e2, e3]
  · rename_i q _
    rw [hq, h]
    simp only [garr, e4, e5, e6]
theorem RS.lt {G : gG} {K : gK} {I : gI} {J : gJ} {X : gX} {A : gI} {B : gJ} {Q : gX} {H : Heap} {a : Nat} (h : RS G K I J X A B Q H) (hk : K a ≠ none) : a < H.size := by
  have h1 := (h a).1
  unfold rs_at at h1
  split at h1
  · rename_i e; exact absurd e hk
  · obtain ⟨-, cell, q, -⟩ := h1
    exact (Array.getElem?_eq_some_iff.mp q).1
  · exact (Array.getElem?_eq_some_iff.mp h1).1
/-- all but one address as they were -/
theorem RS.step {G : gG} {K : gK} {I I' : gI} {J J' : gJ} {X X' : gX} {A A' : gI} {B B' : gJ} {Q Q' : gX} {H H1 : Heap} {a : Nat} (h : RS G K I J X A B Q H) (hz : H1.size = H.size) (oq : ∀ q, q ≠ a → H1[q]? = H[q]?)
    (e1 : ∀ f b, b ≠ a → I' f b = I f b) (e2 : ∀ f b, b ≠ a → J' f b = J f b) (e3 : ∀ f b, b ≠ a → X' f b = X f b) (e4 : ∀ b, b ≠ a → A' b = A b) (e5 : ∀ b, b ≠ a → B' b = B b) (e6 : ∀ b, b ≠ a → Q' b = Q b)
    (ha : rs_at G K I' J' X' A' B' Q' H1 a) : RS G K I' J' X' A' B' Q' H1 := by
  intro b
  refine ⟨?_, (h b).2.1, by rw [hz]; exact (h b).2.2⟩
  by_cases hb : b = a
  · subst hb; exact ha
  · exact (h b).1.kept (oq b hb) (fun f => e1 f b hb) (fun f => e2 f b hb) (fun f => e3 f b hb) (e4 b hb) (e5 b hb) (e6 b hb)
theorem RS.obj {G : gG} {K : gK} {I : gI} {J : gJ} {X : gX} {A : gI} {B : gJ} {Q : gX} {H : Heap} {a ci : Nat} (h : RS G K I J X A B Q H) (hk : K a = some (.inl ci)) : ci < 20 ∧ t_OB a (G.1.1 ci) (gN ci) (G.1.2 ci) H (fun k => gfv I J X ci k a) := by
  have h1 := (h a).1
  unfold rs_at at h1
  rw [hk] at h1
  exact h1
theorem RS.arr {G : gG} {K : gK} {I : gI} {J : gJ} {X : gX} {A : gI} {B : gJ} {Q : gX} {H : Heap} {a t n : Nat} (h : RS G K I J X A B Q H) (hk : K a = some (.inr (t, n))) : H[a]? = some (vp_cell (G.2.1 t) (garr A B Q t n a)) := by
  have h1 := (h a).1
  unfold rs_at at h1
  rw [hk] at h1
  exact h1
theorem RS.ge {G : gG} {K : gK} {I : gI} {J : gJ} {X : gX} {A : gI} {B : gJ} {Q : gX} {H : Heap} {a : Nat} (h : RS G K I J X A B Q H) (hk : K a ≠ none) : G.2.2 ≤ a := (h a).2.1 hk
theorem RS.all {G : gG} {K : gK} {I : gI} {J : gJ} {X : gX} {A : gI} {B : gJ} {Q : gX} {H : Heap} {a : Nat} (h : RS G K I J X A B Q H) (hz : G.2.2 ≤ a) (hl : a < H.size) : K a ≠ none := (h a).2.2 hz hl
theorem RS.size {G : gG} {K : gK} {I : gI} {J : gJ} {X : gX} {A : gI} {B : gJ} {Q : gX} {H : Heap} {n : Nat} (h : RS G K I J X A B Q H) (hz : G.2.2 ≤ n) (hn : K n = none) (hp : n = G.2.2 ∧ G.2.2 ≤ H.size ∨ ∃ k, n = k + 1 ∧ K k ≠ none) : H.size = n := by
  have h1 : ¬ n < H.size := fun q => h.all hz q hn
  rcases hp with ⟨h2, h3⟩ | ⟨k, h2, h3⟩
  · omega
  · have h4 := h.lt h3
    omega
/-- the words of the tables that don't ride in the lists -/
def nwk (w : Cond) : Bool := match w with
  | .fieldLinkNest _ _ _ _ _ _ => true
  | .methodLinkNest _ _ _ _ => true
  | .declares _ => true
  | .castable _ _ => true
  | .privateMethod _ => true
  | .arrayOver _ => true
  | _ => false
def NW (U : State) : Prop := ∀ w ∈ lw_tbl, nwk w = true → va_Nw w U
theorem NW_ao {ty : FieldType} {u U : State} (hvm : u.vm.Alike U.vm) (h : (Cond.arrayOver ty).before #[] u = true) : (Cond.arrayOver ty).before #[] U = true := by
  rw [← Cond.arrayOver_setVmC (args := #[]) hvm ty] at h
  exact h
theorem NW.warm {s U : State} (hW : s.WarmedH U.vm) (h : NW s) : NW U := by
  intro w hw hk
  have h1 := h w hw hk
  cases w
  case arrayOver ty => exact NW_ao hW.alike h1
  all_goals first
    | exact va_Nw.warmF hW h1
    | exact va_Nw.warmM hW h1
    | exact va_Nw.warmD hW h1
    | exact va_Nw.warmC hW h1
    | exact Cond.privateMethod_warm hW h1
    | exact absurd hk (by simp [nwk])
theorem NW.same {s U : State} (e : s.vm = U.vm) (h : NW s) : NW U := by
  intro w hw hk
  have h1 := h w hw hk
  cases w
  case arrayOver ty => exact NW_ao (by rw [e]; exact Vm.Alike.refl _) h1
  all_goals first
    | exact va_Nw.same rfl e h1
    | exact absurd hk (by simp [nwk])
/-- what holds of the machine all through -/
def GC (G : gG) (U : State) : Prop := va_K G.1 gCl (gtys G.2.1) U ∧ NW U
theorem GC.warm {G : gG} {s U : State} (hW : s.WarmedH U.vm) (h : GC G s) : GC G U := ⟨va_K.moved hW.alike h.1, h.2.warm hW⟩
theorem GC.same {G : gG} {s U : State} (e : s.vm = U.vm) (h : GC G s) : GC G U := ⟨va_K.moved (by rw [e]; exact Vm.Alike.refl _) h.1, h.2.same e⟩
/-- a class's own word of a field: pool index, the object's class, the field's place in it, its number, its sort -/
def GLink (own : String) (index ci k : Nat) : Prop := ∃ (C : String) (T : u_T) (N : Nat) (ref : String), gCl[ci]? = some (C, T, N) ∧ k < N ∧ (∀ w ∈ u_ws C T N, w ∈ lw_all) ∧
  (Cond.fieldLink own index ref (T k).2.1 (T k).2.2.1 ∈ lw_all ∨ ∃ host, Cond.fieldLinkNest own index ref (T k).2.1 (T k).2.2.1 host ∈ lw_tbl) ∧
  (ref = (T k).1 ∨ Cond.sameField ref (T k).1 (T k).2.1 (T k).2.2.1 ∈ lw_all)
/-- .. that may be written: its name is no other's of the class, it isn't final -/
def GPut (own : String) (index ci k : Nat) : Prop := GLink own index ci k ∧ (∀ j, j < gN ci → j ≠ k → (gT ci j).2.1 ≠ (gT ci k).2.1) ∧ (gT ci k).2.2.2 = false ∧ (∀ j, j < gN ci → (parseFieldDescriptor (gT ci j).2.2.1).isSome = true)
theorem gT_of {ci : Nat} {C : String} {T : u_T} {N : Nat} (h : gCl[ci]? = some (C, T, N)) : gT ci = T ∧ gN ci = N := by
  constructor
  · funext k; simp [gT, h]
  · simp [gN, h]
theorem fits_narrow_b (v : Int32) : fits .boolean (narrow .boolean (.int v)) = true := by
  obtain ⟨j, hj, e⟩ := pk_andE v (m := 1) 1 rfl
  have h : j = 0 ∨ j = 1 := by omega
  simp only [narrow, e]
  rcases h with rfl | rfl <;> rfl
section GROWS
variable {p : Program} {l : Launch} {e : Env} {R : Room} {s : State} {m : MethodId} {args : Array Value} {below : List Frame} {meth : Method} {c : Code} {H H0 : Heap} {locs : List Loc} {cells slots : Nat} {Z : State → Prop}
variable {cc : ByteArray} {pc : Nat} {ls : Array Slot} {rest : List Value} {G : gG} {K : gK} {I : gI} {J : gJ} {X : gX} {A : gI} {B : gJ} {Q : gX} {a : Nat} {own : String} {index ci k : Nat}
theorem g_get (hx : p.tables.exec = Jvm.exec) (hb : c.code = cc) (hts : ∀ w ∈ lw_all, w.before args s = true) (hown : s.vm.findClass own = some m.cls) (hG : GC G s) (hR : RS G K I J X A B Q H) (hL : GLink own index ci k) (hk : K a = some (.inl ci)) (hdg : decode cc pc = .ok (.getfield index, 3))
    (kk : W p l e R s m args below meth c H locs cells slots Z (F0 m (pc + 3) ls (gfv I J X ci k a :: rest))) : W p l e R s m args below meth c H locs cells slots Z (F0 m pc ls (.ref a :: rest)) := by
  obtain ⟨C, T, N, ref, hc, hkN, hin, hl, hsm⟩ := hL
  obtain ⟨eT, eN⟩ := gT_of hc
  obtain ⟨-, cell, q1, q2, q3, q4⟩ := hR.obj hk
  rw [eN] at q4
  obtain ⟨hS, hfc, kC, hkC, hkind⟩ := hG.1.1 ci _ hc
  obtain ⟨cf, kf, fi, f, hi, hsl⟩ := hS k hkN
  have hi2 : s.fieldFound? ref (T k).2.1 (T k).2.2.1 = some (cf, kf, fi, f) := by
    rcases hsm with h | h
    · rw [h]; exact hi
    · exact u_same (hts _ h) _ hi
  have hst := (u_facts hfc hkC (u_lays hts hin hkN) hi).1
  rcases hl with h | ⟨host, h⟩
  · exact W.getf hx hb hown (hts _ h) hi2 hst q1 (by rw [q3]; exact fun h => by cases h) (by rw [hsl]; exact q4 k hkN) rfl rfl hdg kk
  · exact va_Wgetf hx hb hown (va_Nw.use rfl (hG.2 _ h rfl)) hi2 hst q1 (by rw [q3]; exact fun h => by cases h) (by rw [hsl]; exact q4 k hkN) rfl rfl hdg kk
/-- the bare write: the cell's place is v, all else as it was -/
theorem g_put0 (hx : p.tables.exec = Jvm.exec) (hb : c.code = cc) (hts : ∀ w ∈ lw_all, w.before args s = true) (hown : s.vm.findClass own = some m.cls) (hG : GC G s) (hR : RS G K I J X A B Q H) (hS : va_S (gA G) H0 H locs) (hL : GPut own index ci k) (hk : K a = some (.inl ci)) {ty : FieldType} {v : Value}
    (hd : parseFieldDescriptor (gT ci k).2.2.1 = some ty) (hn : narrow ty v = v) (hfit : fits ty v = true) (hdg : decode cc pc = .ok (.putfield index, 3))
    (kk : ∀ (H1 : Heap) (locs1 : List Loc), H1.size = H.size → t_OB a (G.1.1 ci) (gN ci) (G.1.2 ci) H1 (updV (fun j => gfv I J X ci j a) k v) → (∀ q, q ≠ a → H1[q]? = H[q]?) → va_S (gA G) H0 H1 locs1 → W p l e R s m args below meth c H1 locs1 cells slots Z (F0 m (pc + 3) ls rest)) : W p l e R s m args below meth c H locs cells slots Z (F0 m pc ls (v :: .ref a :: rest)) := by
  obtain ⟨⟨C, T, N, ref, hc, hkN, hin, hl, hsm⟩, hnm, hfin, hpd⟩ := hL
  obtain ⟨eT, eN⟩ := gT_of hc
  obtain ⟨-, cell, q1, q2, q3, q4⟩ := hR.obj hk
  rw [eN] at q4
  rw [eT] at hfin hd hnm hpd
  rw [eN] at hnm hpd
  obtain ⟨hSl, hfc, kC, hkC, hkind⟩ := hG.1.1 ci _ hc
  obtain ⟨cf, kf, fi, f, hi, hsl⟩ := hSl k hkN
  have hi2 : s.fieldFound? ref (T k).2.1 (T k).2.2.1 = some (cf, kf, fi, f) := by
    rcases hsm with h | h
    · rw [h]; exact hi
    · exact u_same (hts _ h) _ hi
  have hlay := hts _ (hin _ (u_in_lay hkN))
  unfold u_lay at hlay
  rw [if_neg (by rw [hfin]; decide)] at hlay
  have hst := (u_facts hfc hkC (u_lays hts hin hkN) hi).1
  have h6 := u_store hfc hkC hkind hlay hi hd hn hfit
  have hap : ∀ j, j < N → j ≠ k → G.1.2 ci k ≠ G.1.2 ci j := by
    intro j hj hne
    obtain ⟨_, _, _, fb, hib, eb⟩ := hSl j hj
    rw [← hsl, ← eb]
    refine u_apart (u_lays hts hin hkN) (u_lays hts hin hj) hi hib ?_
    have e1 : f.name = (T k).2.1 := by
      cases hp : parseFieldDescriptor (T k).2.2.1 with
      | none => rw [hp] at hd; cases hd
      | some t => exact (State.fieldFound?_type hi hp).1
    have e2 : fb.name = (T j).2.1 := by
      cases hp : parseFieldDescriptor (T j).2.2.1 with
      | none => have h9 := hpd j hj; rw [hp] at h9; cases h9
      | some t => exact (State.fieldFound?_type hib hp).1
    rw [e1, e2]
    exact Ne.symm (hnm j hj hne)
  have key : ∀ H1 : Heap, H1[a]? = some (cell.setSlot (G.1.2 ci k) v) → t_OB a (G.1.1 ci) (gN ci) (G.1.2 ci) H1 (updV (fun j => gfv I J X ci j a) k v) := by
    intro H1 e1
    rw [eN]
    refine ⟨_, e1, q2, q3, fun j hj => ?_⟩
    by_cases hjk : j = k
    · subst hjk
      rw [Cell.slots_setSlot_self _ (k2_hasslot (q4 j hj))]
      simp [updV]
    · rw [slot_ne _ _ (hap j hj hjk), q4 j hj]
      simp [updV, hjk]
  rcases hl with h | ⟨host, h⟩
  · refine W.putK hx hb (f := f) ⟨hown, hts _ h, ⟨_, _, _, hi2⟩, hst⟩ (by rw [q2]; exact h6) q1 q3 (by rw [hsl]; exact k2_hasslot (q4 k hkN)) rfl rfl hdg fun H' e1 e2 e3 => ?_
    rw [hsl] at e1 ⊢
    exact kk H' _ e2 (key H' e1) e3 (hS.put e2 e3 (hR.ge (by rw [hk]; exact fun h => by cases h)))
  · refine va_WputK hx hb (f := f) hown (va_Nw.use rfl (hG.2 _ h rfl)) hi2 hst (by rw [q2]; exact h6) q1 q3 (by rw [hsl]; exact k2_hasslot (q4 k hkN)) rfl rfl hdg fun H' e1 e2 e3 => ?_
    rw [hsl] at e1 ⊢
    exact kk H' _ e2 (key H' e1) e3 (hS.put e2 e3 (hR.ge (by rw [hk]; exact fun h => by cases h)))
theorem gfv_i {ci k f a : Nat} (hf : fid ci k = f) (ht : ft ci k = 0) : gfv I J X ci k a = .int (I f a) := by simp [gfv, ht, hf]
theorem gfv_j {ci k f a : Nat} (hf : fid ci k = f) (ht : ft ci k = 1) : gfv I J X ci k a = .long (J f a) := by simp [gfv, ht, hf]
theorem gfv_x {ci k f a : Nat} (hf : fid ci k = f) (ht : ft ci k = 2) : gfv I J X ci k a = va_rf (X f a) := by simp [gfv, ht, hf]
/-- the facts of a field at a pool index of a class: f its number -/
def GFi (own : String) (index ci f : Nat) : Prop := ∃ k, GLink own index ci k ∧ fid ci k = f ∧ ft ci k = 0
def GFj (own : String) (index ci f : Nat) : Prop := ∃ k, GLink own index ci k ∧ fid ci k = f ∧ ft ci k = 1
def GFx (own : String) (index ci f : Nat) : Prop := ∃ k, GLink own index ci k ∧ fid ci k = f ∧ ft ci k = 2
def GPi (own : String) (index ci f : Nat) : Prop := ∃ k, GPut own index ci k ∧ fid ci k = f ∧ ft ci k = 0 ∧ k < 100 ∧ parseFieldDescriptor (gT ci k).2.2.1 = some .int
def GPz (own : String) (index ci f : Nat) : Prop := ∃ k, GPut own index ci k ∧ fid ci k = f ∧ ft ci k = 0 ∧ k < 100 ∧ parseFieldDescriptor (gT ci k).2.2.1 = some .boolean
def GPj (own : String) (index ci f : Nat) : Prop := ∃ k, GPut own index ci k ∧ fid ci k = f ∧ ft ci k = 1 ∧ k < 100 ∧ parseFieldDescriptor (gT ci k).2.2.1 = some .long
def GPx (own : String) (index ci f : Nat) : Prop := ∃ k, GPut own index ci k ∧ fid ci k = f ∧ ft ci k = 2 ∧ k < 100 ∧ ∃ C, parseFieldDescriptor (gT ci k).2.2.1 = some (.object C)
theorem gN_100 : ∀ ci, ci < 20 → gN ci ≤ 100 := by decide +kernel
theorem g_geti (hx : p.tables.exec = Jvm.exec) (hb : c.code = cc) (hts : ∀ w ∈ lw_all, w.before args s = true) (hown : s.vm.findClass own = some m.cls) (hG : GC G s) (hR : RS G K I J X A B Q H) {f : Nat} (hL : GFi own index ci f) (hk : K a = some (.inl ci)) (hdg : decode cc pc = .ok (.getfield index, 3))
    (kk : W p l e R s m args below meth c H locs cells slots Z (F0 m (pc + 3) ls (.int (I f a) :: rest))) : W p l e R s m args below meth c H locs cells slots Z (F0 m pc ls (.ref a :: rest)) := by
  obtain ⟨k, h1, h2, h3⟩ := hL
  refine g_get hx hb hts hown hG hR h1 hk hdg ?_
  rw [gfv_i h2 h3]
  exact kk
theorem g_getj (hx : p.tables.exec = Jvm.exec) (hb : c.code = cc) (hts : ∀ w ∈ lw_all, w.before args s = true) (hown : s.vm.findClass own = some m.cls) (hG : GC G s) (hR : RS G K I J X A B Q H) {f : Nat} (hL : GFj own index ci f) (hk : K a = some (.inl ci)) (hdg : decode cc pc = .ok (.getfield index, 3))
    (kk : W p l e R s m args below meth c H locs cells slots Z (F0 m (pc + 3) ls (.long (J f a) :: rest))) : W p l e R s m args below meth c H locs cells slots Z (F0 m pc ls (.ref a :: rest)) := by
  obtain ⟨k, h1, h2, h3⟩ := hL
  refine g_get hx hb hts hown hG hR h1 hk hdg ?_
  rw [gfv_j h2 h3]
  exact kk
theorem g_getx (hx : p.tables.exec = Jvm.exec) (hb : c.code = cc) (hts : ∀ w ∈ lw_all, w.before args s = true) (hown : s.vm.findClass own = some m.cls) (hG : GC G s) (hR : RS G K I J X A B Q H) {f : Nat} (hL : GFx own index ci f) (hk : K a = some (.inl ci)) (hdg : decode cc pc = .ok (.getfield index, 3))
    (kk : W p l e R s m args below meth c H locs cells slots Z (F0 m (pc + 3) ls (va_rf (X f a) :: rest))) : W p l e R s m args below meth c H locs cells slots Z (F0 m pc ls (.ref a :: rest)) := by
  obtain ⟨k, h1, h2, h3⟩ := hL
  refine g_get hx hb hts hown hG hR h1 hk hdg ?_
  rw [gfv_x h2 h3]
  exact kk
/-- .. a ref that is known -/
theorem g_getr (hx : p.tables.exec = Jvm.exec) (hb : c.code = cc) (hts : ∀ w ∈ lw_all, w.before args s = true) (hown : s.vm.findClass own = some m.cls) (hG : GC G s) (hR : RS G K I J X A B Q H) {f : Nat} (hL : GFx own index ci f) (hk : K a = some (.inl ci)) {b : Nat} (hX : X f a = some b) (hdg : decode cc pc = .ok (.getfield index, 3))
    (kk : W p l e R s m args below meth c H locs cells slots Z (F0 m (pc + 3) ls (.ref b :: rest))) : W p l e R s m args below meth c H locs cells slots Z (F0 m pc ls (.ref a :: rest)) := by
  refine g_getx hx hb hts hown hG hR hL hk hdg ?_
  rw [hX]
  exact kk
theorem gfv_upi {ci k j a : Nat} {v : Int32} (hc : ci < 20) (hj : j < 100) (hk : k < 100) (ht : ft ci k = 0) : updV (fun j => gfv I J X ci j a) k (.int v) j = gfv (i_up I (fid ci k) a v) J X ci j a := by
  unfold updV
  by_cases h : j = k
  · subst h
    rw [if_pos rfl]
    simp [gfv, ht, i_up_self]
  · rw [if_neg h]
    have hf : fid ci j ≠ fid ci k := fun e => h (fid_inj hc hj hk e)
    simp [gfv, i_up_f hf]
theorem gfv_upj {ci k j a : Nat} {v : Int64} (hc : ci < 20) (hj : j < 100) (hk : k < 100) (ht : ft ci k = 1) : updV (fun j => gfv I J X ci j a) k (.long v) j = gfv I (i_up J (fid ci k) a v) X ci j a := by
  unfold updV
  by_cases h : j = k
  · subst h
    rw [if_pos rfl]
    simp [gfv, ht, i_up_self]
  · rw [if_neg h]
    have hf : fid ci j ≠ fid ci k := fun e => h (fid_inj hc hj hk e)
    simp [gfv, i_up_f hf]
theorem gfv_upx {ci k j a : Nat} {v : Option Nat} (hc : ci < 20) (hj : j < 100) (hk : k < 100) (ht : ft ci k = 2) : updV (fun j => gfv I J X ci j a) k (va_rf v) j = gfv I J (i_up X (fid ci k) a v) ci j a := by
  unfold updV
  by_cases h : j = k
  · subst h
    rw [if_pos rfl]
    simp [gfv, ht, i_up_self]
  · rw [if_neg h]
    have hf : fid ci j ≠ fid ci k := fun e => h (fid_inj hc hj hk e)
    simp [gfv, i_up_f hf]
theorem g_put1 (hR : RS G K I J X A B Q H) {H1 : Heap} {I' : gI} {J' : gJ} {X' : gX} {V : Nat → Value} (hk : K a = some (.inl ci)) (hz : H1.size = H.size) (oq : ∀ q, q ≠ a → H1[q]? = H[q]?) (h : t_OB a (G.1.1 ci) (gN ci) (G.1.2 ci) H1 V) (hV : ∀ j, j < gN ci → V j = gfv I' J' X' ci j a)
    (e1 : ∀ f b, b ≠ a → I' f b = I f b) (e2 : ∀ f b, b ≠ a → J' f b = J f b) (e3 : ∀ f b, b ≠ a → X' f b = X f b) : RS G K I' J' X' A B Q H1 := by
  refine hR.step hz oq e1 e2 e3 (fun _ _ => rfl) (fun _ _ => rfl) (fun _ _ => rfl) ?_
  unfold rs_at
  rw [hk]
  exact ⟨(hR.obj hk).1, h.to hV⟩
theorem g_puti (hx : p.tables.exec = Jvm.exec) (hb : c.code = cc) (hts : ∀ w ∈ lw_all, w.before args s = true) (hown : s.vm.findClass own = some m.cls) (hG : GC G s) (hR : RS G K I J X A B Q H) (hS : va_S (gA G) H0 H locs) {f : Nat} (hL : GPi own index ci f) (hk : K a = some (.inl ci)) {v : Int32} (hdg : decode cc pc = .ok (.putfield index, 3))
    (kk : ∀ (H1 : Heap) (locs1 : List Loc), RS G K (i_up I f a v) J X A B Q H1 → va_S (gA G) H0 H1 locs1 → W p l e R s m args below meth c H1 locs1 cells slots Z (F0 m (pc + 3) ls rest)) : W p l e R s m args below meth c H locs cells slots Z (F0 m pc ls (.int v :: .ref a :: rest)) := by
  obtain ⟨k, h1, h2, h3, h4, h5⟩ := hL
  have hc := (hR.obj hk).1
  subst h2
  exact g_put0 hx hb hts hown hG hR hS h1 hk h5 rfl rfl hdg fun H1 locs1 hz hO oq hS1 => kk H1 locs1 (g_put1 hR hk hz oq hO (fun j hj => gfv_upi hc (Nat.lt_of_lt_of_le hj (gN_100 ci hc)) h4 h3) (fun f b hb => i_up_a hb) (fun _ _ _ => rfl) (fun _ _ _ => rfl)) hS1
theorem g_putz (hx : p.tables.exec = Jvm.exec) (hb : c.code = cc) (hts : ∀ w ∈ lw_all, w.before args s = true) (hown : s.vm.findClass own = some m.cls) (hG : GC G s) (hR : RS G K I J X A B Q H) (hS : va_S (gA G) H0 H locs) {f : Nat} (hL : GPz own index ci f) (hk : K a = some (.inl ci)) {v : Int32} (hn : narrow .boolean (.int v) = .int v) (hdg : decode cc pc = .ok (.putfield index, 3))
    (kk : ∀ (H1 : Heap) (locs1 : List Loc), RS G K (i_up I f a v) J X A B Q H1 → va_S (gA G) H0 H1 locs1 → W p l e R s m args below meth c H1 locs1 cells slots Z (F0 m (pc + 3) ls rest)) : W p l e R s m args below meth c H locs cells slots Z (F0 m pc ls (.int v :: .ref a :: rest)) := by
  obtain ⟨k, h1, h2, h3, h4, h5⟩ := hL
  have hc := (hR.obj hk).1
  subst h2
  exact g_put0 hx hb hts hown hG hR hS h1 hk h5 hn (by rw [← hn]; exact fits_narrow_b v) hdg fun H1 locs1 hz hO oq hS1 => kk H1 locs1 (g_put1 hR hk hz oq hO (fun j hj => gfv_upi hc (Nat.lt_of_lt_of_le hj (gN_100 ci hc)) h4 h3) (fun f b hb => i_up_a hb) (fun _ _ _ => rfl) (fun _ _ _ => rfl)) hS1
theorem g_putj (hx : p.tables.exec = Jvm.exec) (hb : c.code = cc) (hts : ∀ w ∈ lw_all, w.before args s = true) (hown : s.vm.findClass own = some m.cls) (hG : GC G s) (hR : RS G K I J X A B Q H) (hS : va_S (gA G) H0 H locs) {f : Nat} (hL : GPj own index ci f) (hk : K a = some (.inl ci)) {v : Int64} (hdg : decode cc pc = .ok (.putfield index, 3))
    (kk : ∀ (H1 : Heap) (locs1 : List Loc), RS G K I (i_up J f a v) X A B Q H1 → va_S (gA G) H0 H1 locs1 → W p l e R s m args below meth c H1 locs1 cells slots Z (F0 m (pc + 3) ls rest)) : W p l e R s m args below meth c H locs cells slots Z (F0 m pc ls (.long v :: .ref a :: rest)) := by
  obtain ⟨k, h1, h2, h3, h4, h5⟩ := hL
  have hc := (hR.obj hk).1
  subst h2
  exact g_put0 hx hb hts hown hG hR hS h1 hk h5 rfl rfl hdg fun H1 locs1 hz hO oq hS1 => kk H1 locs1 (g_put1 hR hk hz oq hO (fun j hj => gfv_upj hc (Nat.lt_of_lt_of_le hj (gN_100 ci hc)) h4 h3) (fun _ _ _ => rfl) (fun f b hb => i_up_a hb) (fun _ _ _ => rfl)) hS1
theorem g_putx (hx : p.tables.exec = Jvm.exec) (hb : c.code = cc) (hts : ∀ w ∈ lw_all, w.before args s = true) (hown : s.vm.findClass own = some m.cls) (hG : GC G s) (hR : RS G K I J X A B Q H) (hS : va_S (gA G) H0 H locs) {f : Nat} (hL : GPx own index ci f) (hk : K a = some (.inl ci)) {v : Option Nat} (hdg : decode cc pc = .ok (.putfield index, 3))
    (kk : ∀ (H1 : Heap) (locs1 : List Loc), RS G K I J (i_up X f a v) A B Q H1 → va_S (gA G) H0 H1 locs1 → W p l e R s m args below meth c H1 locs1 cells slots Z (F0 m (pc + 3) ls rest)) : W p l e R s m args below meth c H locs cells slots Z (F0 m pc ls (va_rf v :: .ref a :: rest)) := by
  obtain ⟨k, h1, h2, h3, h4, C, h5⟩ := hL
  have hc := (hR.obj hk).1
  subst h2
  exact g_put0 hx hb hts hown hG hR hS h1 hk h5 (by cases v <;> rfl) (by cases v <;> rfl) hdg fun H1 locs1 hz hO oq hS1 => kk H1 locs1 (g_put1 hR hk hz oq hO (fun j hj => gfv_upx hc (Nat.lt_of_lt_of_le hj (gN_100 ci hc)) h4 h3) (fun _ _ _ => rfl) (fun _ _ _ => rfl) (fun f b hb => i_up_a hb)) hS1
end GROWS
section GARR
variable {p : Program} {l : Launch} {e : Env} {R : Room} {s : State} {m : MethodId} {args : Array Value} {below : List Frame} {meth : Method} {c : Code} {H H0 : Heap} {locs : List Loc} {cells slots : Nat} {Z : State → Prop}
variable {cc : ByteArray} {pc : Nat} {ls : Array Slot} {rest : List Value} {G : gG} {K : gK} {I : gI} {J : gJ} {X : gX} {A : gI} {B : gJ} {Q : gX} {a n : Nat} {i : Int32}
theorem g_put2 (hR : RS G K I J X A B Q H) {H1 : Heap} {A' : gI} {B' : gJ} {Q' : gX} {t : Nat} (hk : K a = some (.inr (t, n))) (hz : H1.size = H.size) (oq : ∀ q, q ≠ a → H1[q]? = H[q]?) (h : H1[a]? = some (vp_cell (G.2.1 t) (garr A' B' Q' t n a)))
    (e4 : ∀ b, b ≠ a → A' b = A b) (e5 : ∀ b, b ≠ a → B' b = B b) (e6 : ∀ b, b ≠ a → Q' b = Q b) : RS G K I J X A' B' Q' H1 := by
  refine hR.step hz oq (fun _ _ _ => rfl) (fun _ _ _ => rfl) (fun _ _ _ => rfl) e4 e5 e6 ?_
  unfold rs_at
  rw [hk]
  exact h
theorem g_alen (hx : p.tables.exec = Jvm.exec) (hb : c.code = cc) (hG : GC G s) (hR : RS G K I J X A B Q H) {t : Nat} (hk : K a = some (.inr (t, n))) (ht : t < 10) {v : Int32} (hv : Int32.ofNat n = v) (hdg : decode cc pc = .ok (.arraylength, 1))
    (kk : W p l e R s m args below meth c H locs cells slots Z (F0 m (pc + 1) ls (.int v :: rest))) : W p l e R s m args below meth c H locs cells slots Z (F0 m pc ls (.ref a :: rest)) := by
  have hP : va_P G.1 gCl [(a, .inl (G.2.1 t, garr A B Q t n a))] H := by
    intro k q hq
    cases k with
    | zero => cases hq; exact hR.arr hk
    | succ k => simp at hq
  have hlen : (garr A B Q t n a).1 = n := by unfold garr; split <;> rfl
  have h10 : ∃ ty, (gtys G.2.1)[t]? = some (G.2.1 t, ty) := by
    match t, ht with
    | 0, _ => exact ⟨_, rfl⟩
    | 1, _ => exact ⟨_, rfl⟩
    | 2, _ => exact ⟨_, rfl⟩
    | 3, _ => exact ⟨_, rfl⟩
    | 4, _ => exact ⟨_, rfl⟩
    | 5, _ => exact ⟨_, rfl⟩
    | 6, _ => exact ⟨_, rfl⟩
    | 7, _ => exact ⟨_, rfl⟩
    | 8, _ => exact ⟨_, rfl⟩
    | 9, _ => exact ⟨_, rfl⟩
    | t + 10, h => omega
  obtain ⟨ty, hty⟩ := h10
  exact va_alen hx hb hG.1 hP 0 t rfl hty (by rw [hlen]; exact hv) hdg kk
theorem g_iald (hx : p.tables.exec = Jvm.exec) (hb : c.code = cc) (hG : GC G s) (hR : RS G K I J X A B Q H) (hk : K a = some (.inr (0, n))) (hin : vp_in i n) (hdg : decode cc pc = .ok (.iaload, 1))
    (kk : W p l e R s m args below meth c H locs cells slots Z (F0 m (pc + 1) ls (.int (A a i.toNatClampNeg) :: rest))) : W p l e R s m args below meth c H locs cells slots Z (F0 m pc ls (.int i :: .ref a :: rest)) := by
  have hlt : i.toNatClampNeg < n := Nat.not_le.mp fun q => hin (Or.inr q)
  have hH : H[a]? = some (vp_cell (G.2.1 0) (n, .inl (A a))) := hR.arr hk
  exact W.iald (v := .int (A a i.toNatClampNeg)) hx hb hH ((hG.1.2 0 _ rfl).1 n (fun j => .int (A a j))) (fun q => by cases q) (by show ¬ (i < 0 ∨ (arrV _ _ _).slots.size ≤ _); rw [arrV_size]; exact hin) (by show (arrV _ _ _).slots[_]? = _; rw [arrV_read _ _ hlt]) rfl rfl hdg kk
theorem g_zald (hx : p.tables.exec = Jvm.exec) (hb : c.code = cc) (hG : GC G s) (hR : RS G K I J X A B Q H) (hk : K a = some (.inr (1, n))) (hin : vp_in i n) (hdg : decode cc pc = .ok (.baload, 1))
    (kk : W p l e R s m args below meth c H locs cells slots Z (F0 m (pc + 1) ls (.int (A a i.toNatClampNeg) :: rest))) : W p l e R s m args below meth c H locs cells slots Z (F0 m pc ls (.int i :: .ref a :: rest)) := by
  have hlt : i.toNatClampNeg < n := Nat.not_le.mp fun q => hin (Or.inr q)
  have hH : H[a]? = some (vp_cell (G.2.1 1) (n, .inl (A a))) := hR.arr hk
  exact W.zald (v := .int (A a i.toNatClampNeg)) hx hb hH ((hG.1.2 1 _ rfl).1 n (fun j => .int (A a j))) (fun q => by cases q) (by show ¬ (i < 0 ∨ (arrV _ _ _).slots.size ≤ _); rw [arrV_size]; exact hin) (by show (arrV _ _ _).slots[_]? = _; rw [arrV_read _ _ hlt]) rfl rfl hdg kk
theorem g_bald (hx : p.tables.exec = Jvm.exec) (hb : c.code = cc) (hG : GC G s) (hR : RS G K I J X A B Q H) (hk : K a = some (.inr (2, n))) (hin : vp_in i n) (hdg : decode cc pc = .ok (.baload, 1))
    (kk : W p l e R s m args below meth c H locs cells slots Z (F0 m (pc + 1) ls (.int (A a i.toNatClampNeg) :: rest))) : W p l e R s m args below meth c H locs cells slots Z (F0 m pc ls (.int i :: .ref a :: rest)) := by
  have hlt : i.toNatClampNeg < n := Nat.not_le.mp fun q => hin (Or.inr q)
  have hH : H[a]? = some (vp_cell (G.2.1 2) (n, .inl (A a))) := hR.arr hk
  exact W.bald (v := .int (A a i.toNatClampNeg)) hx hb hH ((hG.1.2 2 _ rfl).1 n (fun j => .int (A a j))) (fun q => by cases q) (by show ¬ (i < 0 ∨ (arrV _ _ _).slots.size ≤ _); rw [arrV_size]; exact hin) (by show (arrV _ _ _).slots[_]? = _; rw [arrV_read _ _ hlt]) rfl rfl hdg kk
theorem g_lald (hx : p.tables.exec = Jvm.exec) (hb : c.code = cc) (hG : GC G s) (hR : RS G K I J X A B Q H) (hk : K a = some (.inr (3, n))) (hin : vp_in i n) (hdg : decode cc pc = .ok (.laload, 1))
    (kk : W p l e R s m args below meth c H locs cells slots Z (F0 m (pc + 1) ls (.long (B a i.toNatClampNeg) :: rest))) : W p l e R s m args below meth c H locs cells slots Z (F0 m pc ls (.int i :: .ref a :: rest)) := by
  have hlt : i.toNatClampNeg < n := Nat.not_le.mp fun q => hin (Or.inr q)
  have hH : H[a]? = some (vp_cell (G.2.1 3) (n, .inr (.inl (B a)))) := hR.arr hk
  exact W.lald (v := .long (B a i.toNatClampNeg)) hx hb hH ((hG.1.2 3 _ rfl).1 n (fun j => .long (B a j))) (fun q => by cases q) (by show ¬ (i < 0 ∨ (arrV _ _ _).slots.size ≤ _); rw [arrV_size]; exact hin) (by show (arrV _ _ _).slots[_]? = _; rw [arrV_read _ _ hlt]) rfl rfl hdg kk
theorem g_aald (hx : p.tables.exec = Jvm.exec) (hb : c.code = cc) (hG : GC G s) (hR : RS G K I J X A B Q H) {t : Nat} (hk : K a = some (.inr (t + 4, n))) (ht : t < 6) (hin : vp_in i n) (hdg : decode cc pc = .ok (.aaload, 1))
    (kk : W p l e R s m args below meth c H locs cells slots Z (F0 m (pc + 1) ls (va_rf (Q a i.toNatClampNeg) :: rest))) : W p l e R s m args below meth c H locs cells slots Z (F0 m pc ls (.int i :: .ref a :: rest)) := by
  have hlt : i.toNatClampNeg < n := Nat.not_le.mp fun q => hin (Or.inr q)
  have h10 : ∃ ty, (gtys G.2.1)[t + 4]? = some (G.2.1 (t + 4), ty) ∧ ty.isReference = true := by
    match t, ht with
    | 0, _ => exact ⟨_, rfl, rfl⟩
    | 1, _ => exact ⟨_, rfl, rfl⟩
    | 2, _ => exact ⟨_, rfl, rfl⟩
    | 3, _ => exact ⟨_, rfl, rfl⟩
    | 4, _ => exact ⟨_, rfl, rfl⟩
    | 5, _ => exact ⟨_, rfl, rfl⟩
    | t + 6, h => omega
  obtain ⟨ty, hty, hrf⟩ := h10
  have hH : H[a]? = some (vp_cell (G.2.1 (t + 4)) (n, .inr (.inr (.inr (.inr (Q a)))))) := hR.arr hk
  exact W.aald (v := va_rf (Q a i.toNatClampNeg)) (ty := ty) hx hb hH ((hG.1.2 (t + 4) _ hty).1 n (fun j => va_rf (Q a j))) hrf (fun q => by cases q) (by show ¬ (i < 0 ∨ (arrV _ _ _).slots.size ≤ _); rw [arrV_size]; exact hin) (by show (arrV _ _ _).slots[_]? = _; rw [arrV_read _ _ hlt]) rfl rfl hdg kk
/-- .. a ref that is known -/
theorem g_aaldr (hx : p.tables.exec = Jvm.exec) (hb : c.code = cc) (hG : GC G s) (hR : RS G K I J X A B Q H) {t : Nat} (hk : K a = some (.inr (t + 4, n))) (ht : t < 6) (hin : vp_in i n) {b : Nat} (hQ : Q a i.toNatClampNeg = some b) (hdg : decode cc pc = .ok (.aaload, 1))
    (kk : W p l e R s m args below meth c H locs cells slots Z (F0 m (pc + 1) ls (.ref b :: rest))) : W p l e R s m args below meth c H locs cells slots Z (F0 m pc ls (.int i :: .ref a :: rest)) := by
  refine g_aald hx hb hG hR hk ht hin hdg ?_
  rw [hQ]
  exact kk
theorem g_iast (hx : p.tables.exec = Jvm.exec) (hb : c.code = cc) (hG : GC G s) (hR : RS G K I J X A B Q H) (hS : va_S (gA G) H0 H locs) (hk : K a = some (.inr (0, n))) (hin : vp_in i n) {x : Int32} (hdg : decode cc pc = .ok (.iastore, 1))
    (kk : ∀ (H1 : Heap) (locs1 : List Loc), RS G K I J X (a_up A a (upd (A a) i.toNatClampNeg x)) B Q H1 → va_S (gA G) H0 H1 locs1 → W p l e R s m args below meth c H1 locs1 cells slots Z (F0 m (pc + 1) ls rest)) : W p l e R s m args below meth c H locs cells slots Z (F0 m pc ls (.int x :: .int i :: .ref a :: rest)) := by
  refine W.iast hx hb (hR.arr hk) ((hG.1.2 0 _ rfl).1 n (fun j => .int (A a j))) (fun q => by cases q) (by show ¬ (i < 0 ∨ (arrV _ _ _).slots.size ≤ _); rw [arrV_size]; exact hin) rfl rfl hdg fun H1 e z oq => ?_
  refine kk H1 _ (g_put2 hR hk z oq ?_ (fun b hb => a_up_ne hb) (fun _ _ => rfl) (fun _ _ => rfl)) (hS.put z oq (hR.ge (by rw [hk]; exact fun h => by cases h)))
  rw [e]
  simp only [garr, a_up_self]
  rw [vp_cell_i, vp_cell_i, arrV_store]
  congr 2
  funext q
  by_cases hq : q = i.toNatClampNeg
  · subst hq
    simp [updV, upd, vp_nar]
    try rfl
  · simp [updV, upd, hq]
theorem g_zast (hx : p.tables.exec = Jvm.exec) (hb : c.code = cc) (hG : GC G s) (hR : RS G K I J X A B Q H) (hS : va_S (gA G) H0 H locs) (hk : K a = some (.inr (1, n))) (hin : vp_in i n) {x : Int32} (hdg : decode cc pc = .ok (.bastore, 1))
    (kk : ∀ (H1 : Heap) (locs1 : List Loc), RS G K I J X (a_up A a (upd (A a) i.toNatClampNeg (vp_nar .boolean x))) B Q H1 → va_S (gA G) H0 H1 locs1 → W p l e R s m args below meth c H1 locs1 cells slots Z (F0 m (pc + 1) ls rest)) : W p l e R s m args below meth c H locs cells slots Z (F0 m pc ls (.int x :: .int i :: .ref a :: rest)) := by
  refine W.zast hx hb (hR.arr hk) ((hG.1.2 1 _ rfl).1 n (fun j => .int (A a j))) (fun q => by cases q) (by show ¬ (i < 0 ∨ (arrV _ _ _).slots.size ≤ _); rw [arrV_size]; exact hin) rfl rfl hdg fun H1 e z oq => ?_
  refine kk H1 _ (g_put2 hR hk z oq ?_ (fun b hb => a_up_ne hb) (fun _ _ => rfl) (fun _ _ => rfl)) (hS.put z oq (hR.ge (by rw [hk]; exact fun h => by cases h)))
  rw [e]
  simp only [garr, a_up_self]
  rw [vp_cell_i, vp_cell_i, arrV_store]
  congr 2
  funext q
  by_cases hq : q = i.toNatClampNeg
  · subst hq
    simp [updV, upd, vp_nar]
    try rfl
  · simp [updV, upd, hq]
theorem g_bast (hx : p.tables.exec = Jvm.exec) (hb : c.code = cc) (hG : GC G s) (hR : RS G K I J X A B Q H) (hS : va_S (gA G) H0 H locs) (hk : K a = some (.inr (2, n))) (hin : vp_in i n) {x : Int32} (hdg : decode cc pc = .ok (.bastore, 1))
    (kk : ∀ (H1 : Heap) (locs1 : List Loc), RS G K I J X (a_up A a (upd (A a) i.toNatClampNeg (vp_nar .byte x))) B Q H1 → va_S (gA G) H0 H1 locs1 → W p l e R s m args below meth c H1 locs1 cells slots Z (F0 m (pc + 1) ls rest)) : W p l e R s m args below meth c H locs cells slots Z (F0 m pc ls (.int x :: .int i :: .ref a :: rest)) := by
  refine W.bast hx hb (hR.arr hk) ((hG.1.2 2 _ rfl).1 n (fun j => .int (A a j))) (fun q => by cases q) (by show ¬ (i < 0 ∨ (arrV _ _ _).slots.size ≤ _); rw [arrV_size]; exact hin) rfl rfl hdg fun H1 e z oq => ?_
  refine kk H1 _ (g_put2 hR hk z oq ?_ (fun b hb => a_up_ne hb) (fun _ _ => rfl) (fun _ _ => rfl)) (hS.put z oq (hR.ge (by rw [hk]; exact fun h => by cases h)))
  rw [e]
  simp only [garr, a_up_self]
  rw [vp_cell_i, vp_cell_i, arrV_store]
  congr 2
  funext q
  by_cases hq : q = i.toNatClampNeg
  · subst hq
    simp [updV, upd, vp_nar]
    try rfl
  · simp [updV, upd, hq]
theorem g_last (hx : p.tables.exec = Jvm.exec) (hb : c.code = cc) (hG : GC G s) (hR : RS G K I J X A B Q H) (hS : va_S (gA G) H0 H locs) (hk : K a = some (.inr (3, n))) (hin : vp_in i n) {x : Int64} (hdg : decode cc pc = .ok (.lastore, 1))
    (kk : ∀ (H1 : Heap) (locs1 : List Loc), RS G K I J X A (a_up B a (vp_updL (B a) i.toNatClampNeg x)) Q H1 → va_S (gA G) H0 H1 locs1 → W p l e R s m args below meth c H1 locs1 cells slots Z (F0 m (pc + 1) ls rest)) : W p l e R s m args below meth c H locs cells slots Z (F0 m pc ls (.long x :: .int i :: .ref a :: rest)) := by
  refine W.last hx hb (hR.arr hk) ((hG.1.2 3 _ rfl).1 n (fun j => .long (B a j))) (fun q => by cases q) (by show ¬ (i < 0 ∨ (arrV _ _ _).slots.size ≤ _); rw [arrV_size]; exact hin) rfl rfl hdg fun H1 e z oq => ?_
  refine kk H1 _ (g_put2 hR hk z oq ?_ (fun _ _ => rfl) (fun b hb => a_up_ne hb) (fun _ _ => rfl)) (hS.put z oq (hR.ge (by rw [hk]; exact fun h => by cases h)))
  rw [e]
  simp only [garr, a_up_self]
  rw [vp_cell_l, vp_cell_l, arrV_store]
  congr 2
  funext q
  by_cases hq : q = i.toNatClampNeg
  · subst hq
    simp [updV, vp_updL, vp_nar]
    try rfl
  · simp [updV, vp_updL, hq]
theorem g_asS {ci : Nat} (hG : GC G s) (hR : RS G K I J X A B Q H) (hk : K a = some (.inl ci)) : ∃ cell : Cell, H[a]? = some cell ∧ cell.vm = .none ∧ cell.cls = G.1.1 ci := by
  obtain ⟨-, cell, q1, q2, q3, -⟩ := hR.obj hk
  exact ⟨cell, q1, q3, q2⟩
/-- a ref of the array's own class is stored -/
theorem g_aast (hx : p.tables.exec = Jvm.exec) (hb : c.code = cc) (hG : GC G s) (hR : RS G K I J X A B Q H) (hS : va_S (gA G) H0 H locs) {t ci v : Nat} {r : vw_C} (hk : K a = some (.inr (t + 4, n))) (ht : (gtys G.2.1)[t + 4]? = some (G.2.1 (t + 4), .object r.1)) (hc : gCl[ci]? = some r) (hv : K v = some (.inl ci)) (hin : vp_in i n) (hdg : decode cc pc = .ok (.aastore, 1))
    (kk : ∀ (H1 : Heap) (locs1 : List Loc), RS G K I J X A B (a_up Q a (va_up (Q a) i.toNatClampNeg (some v))) H1 → va_S (gA G) H0 H1 locs1 → W p l e R s m args below meth c H1 locs1 cells slots Z (F0 m (pc + 1) ls rest)) : W p l e R s m args below meth c H locs cells slots Z (F0 m pc ls (.ref v :: .int i :: .ref a :: rest)) := by
  have hlt : i.toNatClampNeg < n := Nat.not_le.mp fun q => hin (Or.inr q)
  have h0 : ¬ i < 0 := fun q => hin (Or.inl q)
  obtain ⟨cellV, g1, g3, g2⟩ := g_asS hG hR hv
  have hcls := (hG.1.1 ci r hc).2
  obtain ⟨kA, comp, k1, k2, k3, -⟩ := (hG.1.2 (t + 4) _ ht).2
  have hcomp : comp = G.1.1 ci := Option.some.inj (k3.symm.trans hcls.1)
  subst hcomp
  obtain ⟨kC, hkC, -⟩ := hcls.2
  refine W.aast hx hb (hR.arr hk) (fun q h => by cases h) (fun h => by cases h) k1 k2 rfl hkC ⟨h0, by show _ < (arrV _ _ _).slots.size; rw [arrV_size]; exact hlt⟩ g1 (fun q h => by rw [g3] at h; cases h) (by rw [g2]; exact hkC) (by rw [g2]; exact va_assign hcls) rfl rfl hdg fun H1 e z oq => ?_
  refine kk H1 _ (g_put2 hR hk z oq ?_ (fun _ _ => rfl) (fun _ _ => rfl) (fun b hb => a_up_ne hb)) (hS.put z oq (hR.ge (by rw [hk]; exact fun h => by cases h)))
  rw [e]
  simp only [garr, a_up_self]
  rw [vp_cell_q, vp_cell_q, arrV_store]
  congr 2
  funext q
  by_cases hq : q = i.toNatClampNeg
  · subst hq
    simp [updV, va_up, va_rf]
  · simp [updV, va_up, hq]
end GARR
