/-! WHOLE MAPS: rows for methods that make cells on the way -/
set_option maxRecDepth 100000
def freshz (z : Nat) (K : gK) (n : Nat) : Prop := z ≤ n ∧ (∀ a, n ≤ a → K a = none) ∧ ∀ a, z ≤ a → a < n → K a ≠ none
/-- a guard that nobody decides -/
noncomputable def gdp {β : Type} (p : Prop) (k : Option β) : Option β := @ite _ p (Classical.propDecidable p) k none
theorem gdp_some {β : Type} {p : Prop} {k : Option β} {r : β} (h : gdp p k = some r) : p ∧ k = some r := by
  unfold gdp at h
  by_cases q : p
  · rw [if_pos q] at h
    exact ⟨q, h⟩
  · rw [if_neg q] at h
    cases h
theorem gdp_t {β : Type} {p : Prop} {k : Option β} (h : p) : gdp p k = k := by
  unfold gdp
  rw [if_pos h]
/-- some count of cells and slots with which it goes -/
noncomputable def anyk {β : Type} (f : Nat → Nat → Option β) : Option (Nat × Nat × β) := @dite _ (∃ q : Nat × Nat × β, f q.1 q.2.1 = some q.2.2) (Classical.propDecidable _) (fun h => some (Classical.choose h)) (fun _ => none)
theorem anyk_some {β : Type} {f : Nat → Nat → Option β} {q : Nat × Nat × β} (h : anyk f = some q) : f q.1 q.2.1 = some q.2.2 := by
  unfold anyk at h
  by_cases e : ∃ q : Nat × Nat × β, f q.1 q.2.1 = some q.2.2
  · rw [dif_pos e] at h
    cases h
    exact Classical.choose_spec e
  · rw [dif_neg e] at h
    cases h
theorem anyk_is {β : Type} {f : Nat → Nat → Option β} {k v : Nat} {r : β} (h : f k v = some r) : ∃ q, anyk f = some q := by
  unfold anyk
  rw [dif_pos ⟨(k, v, r), h⟩]
  exact ⟨_, rfl⟩
/-- an array's length -/
def alen (K : gK) (a t : Nat) : Option Nat := match K a with
  | some (.inr (t', n)) => if t' = t then some n else none
  | _ => none
theorem alen_k {K : gK} {a t n : Nat} (h : alen K a t = some n) : K a = some (.inr (t, n)) := by
  unfold alen at h
  cases hk : K a with
  | none => rw [hk] at h; cases h
  | some κ =>
    rw [hk] at h
    cases κ with
    | inl ci => cases h
    | inr q =>
      obtain ⟨t', n'⟩ := q
      dsimp only at h
      split at h
      · rename_i e
        subst e
        cases h
        rfl
      · cases h
theorem va_rf_c (o : Option Nat) : (va_rf o).category = 1 := by cases o <;> rfl
theorem cat_r (a : Nat) : (Value.ref a).category = 1 := rfl
theorem cat_i (a : Int32) : (Value.int a).category = 1 := rfl
theorem cat_l (a : Int64) : (Value.long a).category = 2 := rfl
theorem cat_n : Value.null.category = 1 := rfl
/-- how a method ends that may throw something of ours -/
def xsu (E : String) (r : Nat ⊕ Unit) : xO := match r with
  | .inl b => .inl (E, b)
  | .inr _ => .inr none
def xsi (E : String) (r : Nat ⊕ Int32) : xO := match r with
  | .inl b => .inl (E, b)
  | .inr v => .inr (some (.int v))
def xsq (E : String) (r : Nat ⊕ Nat) : xO := match r with
  | .inl b => .inl (E, b)
  | .inr v => .inr (some (.ref v))
def trs {α β : Type} (r : Nat ⊕ α) (t : Nat → Option β) (k : α → Option β) : Option β := match r with
  | .inl b => t b
  | .inr v => k v
theorem trs_l {α β : Type} {r : Nat ⊕ α} {t : Nat → Option β} {k : α → Option β} {o : Option β} {b : Nat} (h : r = .inl b) (hf : trs r t k = o) : t b = o := by subst h; exact hf
theorem trs_r {α β : Type} {r : Nat ⊕ α} {t : Nat → Option β} {k : α → Option β} {o : Option β} {v : α} (h : r = .inr v) (hf : trs r t k = o) : k v = o := by subst h; exact hf
section WROW
variable {p : Program} {l : Launch} {e : Env} {R : Room} {s : State} {m : MethodId} {args : Array Value} {below : List Frame} {meth : Method} {c : Code} {H H0 : Heap} {locs : List Loc} {cells slots mc ms : Nat} {Z : State → Prop}
variable {cc code : ByteArray} {pc nL : Nat} {ls : Array Slot} {rest st0 As : List Value} {G : gG} {K K' : gK} {I I' : gI} {J J' : gJ} {X X' : gX} {A A' : gI} {B B' : gJ} {Q Q' : gX} {a b n index i ci : Nat} {own C : String} {o : xO}
theorem fz (hz : freshz G.2.2 K n) : fresh G K n := hz
theorem RS.at (hF : freshz G.2.2 K n) (hR : RS G K I J X A B Q H) (hz : G.2.2 ≤ H.size) : H.size = n := (BR.start (fz hF) hR).size hz
theorem n_aload_n {k : Fin 4} {x : Option Nat} (hx : p.tables.exec = Jvm.exec) (hb : c.code = cc) (hdg : decode cc pc = .ok (.aload_n k, 1)) (hi : (k : Nat) = i) (hl : ls[i]? = some (.val (va_rf x)))
    (kk : W p l e R s m args below meth c H locs cells slots Z (F0 m (pc + 1) ls (va_rf x :: rest))) : W p l e R s m args below meth c H locs cells slots Z (F0 m pc ls rest) := by
  cases x with
  | none => exact lv_aload_nN hx hb hdg hi hl kk
  | some x => exact lv_aload_n hx hb hdg hi hl kk
theorem n_aload {x : Option Nat} (hx : p.tables.exec = Jvm.exec) (hb : c.code = cc) (hdg : decode cc pc = .ok (.aload i, 2)) (hl : ls[i]? = some (.val (va_rf x)))
    (kk : W p l e R s m args below meth c H locs cells slots Z (F0 m (pc + 2) ls (va_rf x :: rest))) : W p l e R s m args below meth c H locs cells slots Z (F0 m pc ls rest) := by
  cases x with
  | none => exact lv_aloadN hx hb hdg hl kk
  | some x => exact lv_aload hx hb hdg hl kk
theorem n_astore_n {k : Fin 4} {x : Option Nat} {lv lv' : List (Nat × Value)} (hx : p.tables.exec = Jvm.exec) (hb : c.code = cc) (hdg : decode cc pc = .ok (.astore_n k, 1)) (hi : (k : Nat) = i) (h : lv_has ls nL lv) (hn : i < nL) (hl : (i, va_rf x) :: lv.filter (fun q => !(q.1 == i) && !(q.1 + 1 == i && q.2.category == 2)) = lv')
    (kk : ∀ ls' : Array Slot, lv_has ls' nL lv' → W p l e R s m args below meth c H locs cells slots Z (F0 m (pc + 1) ls' rest)) : W p l e R s m args below meth c H locs cells slots Z (F0 m pc ls (va_rf x :: rest)) := by
  cases x with
  | none => exact lv_astore_nN hx hb hdg hi h hn hl kk
  | some x => exact lv_astore_n hx hb hdg hi h hn hl kk
theorem n_astore {x : Option Nat} {lv lv' : List (Nat × Value)} (hx : p.tables.exec = Jvm.exec) (hb : c.code = cc) (hdg : decode cc pc = .ok (.astore i, 2)) (h : lv_has ls nL lv) (hn : i < nL) (hl : (i, va_rf x) :: lv.filter (fun q => !(q.1 == i) && !(q.1 + 1 == i && q.2.category == 2)) = lv')
    (kk : ∀ ls' : Array Slot, lv_has ls' nL lv' → W p l e R s m args below meth c H locs cells slots Z (F0 m (pc + 2) ls' rest)) : W p l e R s m args below meth c H locs cells slots Z (F0 m pc ls (va_rf x :: rest)) := by
  cases x with
  | none => exact lv_astoreN hx hb hdg h hn hl kk
  | some x => exact lv_astore hx hb hdg h hn hl kk
/-- an object of one cell is made -/
theorem s_new {T : u_T} {N : Nat} (hx : p.tables.exec = Jvm.exec) (hb : c.code = cc) (hts : ∀ w ∈ lw_all, w.before args s = true) (hin : ∀ w ∈ u_ws C T N, w ∈ lw_all) (ty : Nat → FieldType) (hty : ∀ k, k < N → parseFieldDescriptor (T k).2.2.1 = some (ty k)) (hown : s.vm.findClass own = some m.cls) (hcl : (Cond.classLink own index C).before args s = true) (hinst : (Cond.instantiable C N).before args s = true) (hini : (Cond.initialized C).before args s = true)
    (hG : GC G s) (hR : RS G K I J X A B Q H) (hF : freshz G.2.2 K n) (hS : va_S (gA G) H0 H locs) (hz : G.2.2 ≤ H0.size) (hc : gCl[ci]? = some (C, T, N)) (hci : ci < 20) (hfs : ∀ j, j < N → defaultValue (ty j) = gdv (ft ci j)) (hcells : cells + 1 ≤ R.cells) (hslots : slots + N ≤ R.slots) (hdg : decode cc pc = .ok (.new index, 3))
    (kk : ∀ (H1 : Heap), RS G (a_up K n (some (.inl ci))) (zc I n 0) (zc J n 0) (zc X n none) A B Q H1 → va_S (gA G) H0 H1 locs →
      W p l e R s m args below meth c H1 locs (cells + 1) (slots + N) Z (F0 m (pc + 3) ls (.ref n :: rest))) : W p l e R s m args below meth c H locs cells slots Z (F0 m pc ls rest) := by
  have hsz := RS.at hF hR (Nat.le_trans hz hS.1)
  refine g_new hx hb hts hin ty hty hown hcl hinst hini hG hR hS hz hc hci hfs hcells hslots hdg fun q H1 hq z1 hR1 hS1 => ?_
  have e : q = n := hq.trans hsz
  subst e
  exact kk H1 hR1 hS1
theorem s_newa {N : Nat} {v : Int32} (hx : p.tables.exec = Jvm.exec) (hb : c.code = cc) (harr : (Cond.arrayClass .int).before args s = true) (hG : GC G s) (hR : RS G K I J X A B Q H) (hF : freshz G.2.2 K n) (hS : va_S (gA G) H0 H locs) (hz : G.2.2 ≤ H0.size)
    (hn : ¬ v < 0) (hN : v.toNatClampNeg = N) (hbytes : N * 4 ≤ 536870912) (hcells : cells + 1 ≤ R.cells) (hslots : slots + N ≤ R.slots) (hdg : decode cc pc = .ok (.newarray .int, 2))
    (kk : ∀ (H1 : Heap), RS G (a_up K n (some (.inr (0, N)))) I J X (a_up A n (fun _ => 0)) B Q H1 → va_S (gA G) H0 H1 locs →
      W p l e R s m args below meth c H1 locs (cells + 1) (slots + N) Z (F0 m (pc + 2) ls (.ref n :: rest))) : W p l e R s m args below meth c H locs cells slots Z (F0 m pc ls (.int v :: rest)) := by
  have hsz := RS.at hF hR (Nat.le_trans hz hS.1)
  refine g_newa (atype := .int) (t := 0) hx hb harr hG hR hS hz (by decide) rfl (by intro C h; cases h) rfl hn hN hbytes hcells hslots hdg fun q H1 hq z1 hR1 hS1 => ?_
  have e : q = n := hq.trans hsz
  subst e
  exact kk H1 hR1 hS1
/-! calls -/
theorem x_gosu {E : String} {r : Nat ⊕ Unit} {av : Array Value} (hr : vx_Run p l e R s m args below meth c H locs cells slots mc ms (F0 m pc ls st0) rest (xQ G (xsu E r) K' I' J' X' A' B' Q' av) (xX G (xsu E r) K' I' J' X' A' B' Q') (gA G)) (hS : va_S (gA G) H0 H locs)
    (kx : ∀ (b : Nat) (H1 : Heap) (locs1 : List Loc), r = .inl b → RS G K' I' J' X' A' B' Q' H1 → va_S (gA G) H0 H1 locs1 → vx_W p l e R s m args below meth c H1 locs1 (cells + mc) (slots + ms) Z (F0 m pc ls rest) b)
    (kk : ∀ (v : Unit) (H1 : Heap) (locs1 : List Loc), r = .inr v → RS G K' I' J' X' A' B' Q' H1 → va_S (gA G) H0 H1 locs1 → W p l e R s m args below meth c H1 locs1 (cells + mc) (slots + ms) Z (F0 m (pc + 3) ls rest)) : W p l e R s m args below meth c H locs cells slots Z (F0 m pc ls st0) := by
  cases r with
  | inl b => exact x_go hr hS (fun _ _ H1 l1 ho hR hS _ => by cases ho; exact kx b H1 l1 rfl hR hS) (fun _ _ _ ho => by cases ho)
  | inr v => exact x_go hr hS (fun _ _ _ _ ho => by cases ho) (fun _ H1 l1 ho hR hS => by cases ho; exact kk v H1 l1 rfl hR hS)
theorem x_gosi {E : String} {r : Nat ⊕ Int32} {av : Array Value} (hr : vx_Run p l e R s m args below meth c H locs cells slots mc ms (F0 m pc ls st0) rest (xQ G (xsi E r) K' I' J' X' A' B' Q' av) (xX G (xsi E r) K' I' J' X' A' B' Q') (gA G)) (hS : va_S (gA G) H0 H locs)
    (kx : ∀ (b : Nat) (H1 : Heap) (locs1 : List Loc), r = .inl b → RS G K' I' J' X' A' B' Q' H1 → va_S (gA G) H0 H1 locs1 → vx_W p l e R s m args below meth c H1 locs1 (cells + mc) (slots + ms) Z (F0 m pc ls rest) b)
    (kk : ∀ (v : Int32) (H1 : Heap) (locs1 : List Loc), r = .inr v → RS G K' I' J' X' A' B' Q' H1 → va_S (gA G) H0 H1 locs1 → W p l e R s m args below meth c H1 locs1 (cells + mc) (slots + ms) Z (F0 m (pc + 3) ls (.int v :: rest))) : W p l e R s m args below meth c H locs cells slots Z (F0 m pc ls st0) := by
  cases r with
  | inl b => exact x_go hr hS (fun _ _ H1 l1 ho hR hS _ => by cases ho; exact kx b H1 l1 rfl hR hS) (fun _ _ _ ho => by cases ho)
  | inr v => exact x_go hr hS (fun _ _ _ _ ho => by cases ho) (fun _ H1 l1 ho hR hS => by cases ho; exact kk v H1 l1 rfl hR hS)
theorem x_gosq {E : String} {r : Nat ⊕ Nat} {av : Array Value} (hr : vx_Run p l e R s m args below meth c H locs cells slots mc ms (F0 m pc ls st0) rest (xQ G (xsq E r) K' I' J' X' A' B' Q' av) (xX G (xsq E r) K' I' J' X' A' B' Q') (gA G)) (hS : va_S (gA G) H0 H locs)
    (kx : ∀ (b : Nat) (H1 : Heap) (locs1 : List Loc), r = .inl b → RS G K' I' J' X' A' B' Q' H1 → va_S (gA G) H0 H1 locs1 → vx_W p l e R s m args below meth c H1 locs1 (cells + mc) (slots + ms) Z (F0 m pc ls rest) b)
    (kk : ∀ (v : Nat) (H1 : Heap) (locs1 : List Loc), r = .inr v → RS G K' I' J' X' A' B' Q' H1 → va_S (gA G) H0 H1 locs1 → W p l e R s m args below meth c H1 locs1 (cells + mc) (slots + ms) Z (F0 m (pc + 3) ls (.ref v :: rest))) : W p l e R s m args below meth c H locs cells slots Z (F0 m pc ls st0) := by
  cases r with
  | inl b => exact x_go hr hS (fun _ _ H1 l1 ho hR hS _ => by cases ho; exact kx b H1 l1 rfl hR hS) (fun _ _ _ ho => by cases ho)
  | inr v => exact x_go hr hS (fun _ _ _ _ ho => by cases ho) (fun _ H1 l1 ho hR hS => by cases ho; exact kk v H1 l1 rfl hR hS)
/-! ends, with cells to spare -/
theorem e_nret {v : Int32} {ty : FieldType} (hu : cells ≤ mc) (hv : slots ≤ ms) (hx : p.tables.exec = Jvm.exec) (hb : c.code = cc) (hr : meth.sig.returnType = some ty) (hn : narrow ty (.int v) = .int v) (hlocks : meth.locks = false) (hG : GC G s) (hR : RS G K I J X A B Q H) (hS : va_S (gA G) s.heap H locs) (ho : o = .inr (some (.int v))) (hdg : decode cc pc = .ok (.ireturn, 1)) : W p l e R s m args below meth c H locs cells slots (vx_MQ below (xQ G o K I J X A B Q) (xX G o K I J X A B Q) args s mc ms (gA G)) (F0 m pc ls [.int v]) :=
  W.widen hu hv (x_nret hx hb hr hn hlocks hG hR hS ho hdg)
theorem e_vret (hu : cells ≤ mc) (hv : slots ≤ ms) (hx : p.tables.exec = Jvm.exec) (hb : c.code = cc) (hr : meth.sig.returnType = none) (hlocks : meth.locks = false) (hG : GC G s) (hR : RS G K I J X A B Q H) (hS : va_S (gA G) s.heap H locs) (ho : o = .inr none) (hdg : decode cc pc = .ok (.return_, 1)) : W p l e R s m args below meth c H locs cells slots (vx_MQ below (xQ G o K I J X A B Q) (xX G o K I J X A B Q) args s mc ms (gA G)) (F0 m pc ls []) :=
  W.widen hu hv (x_vret hx hb hr hlocks hG hR hS ho hdg)
theorem e_aret {v : Nat} {E : String} (hu : cells ≤ mc) (hv : slots ≤ ms) (hx : p.tables.exec = Jvm.exec) (hb : c.code = cc) (hr : meth.sig.returnType = some (.object E)) (hlocks : meth.locks = false) (hG : GC G s) (hR : RS G K I J X A B Q H) (hS : va_S (gA G) s.heap H locs) (ho : o = .inr (some (.ref v))) (hdg : decode cc pc = .ok (.areturn, 1)) : W p l e R s m args below meth c H locs cells slots (vx_MQ below (xQ G o K I J X A B Q) (xX G o K I J X A B Q) args s mc ms (gA G)) (F0 m pc ls [.ref v]) :=
  W.widen hu hv (x_aret (v := some v) hx hb hr (Or.inl ⟨_, rfl⟩) hlocks hG hR hS ho hdg)
theorem e_out {T : u_T} {N : Nat} {q : Nat} (hu : cells ≤ mc) (hv : slots ≤ ms) (ht : ∀ x ∈ c.exceptionTable.toList, False) (hlocks : meth.locks = false) (hG : GC G s) (hR : RS G K I J X A B Q H) (hS : va_S (gA G) s.heap H locs) (hk : K q = some (.inl ci)) (hc : gCl[ci]? = some (C, T, N)) (ho : o = .inl (C, q)) : vx_W p l e R s m args below meth c H locs cells slots (vx_MQ below (xQ G o K I J X A B Q) (xX G o K I J X A B Q) args s mc ms (gA G)) (F0 m pc ls rest) q :=
  vx_widen hu hv (x_out ht hlocks hG hR hS hk hc ho)
/-- caught by the method's one row -/
theorem e_catch {T : u_T} {N : Nat} {q from0 to0 hp ct : Nat} (hown : s.vm.findClass own = some m.cls) (ht : c.exceptionTable.toList = tableOf [(from0, to0, hp, ct)]) (hG : GC G s) (hR : RS G K I J X A B Q H) (hk : K q = some (.inl ci)) (hc : gCl[ci]? = some (C, T, N)) (hlink : (Cond.classLink own ct C).before args s = true) (hcast : (Cond.castable C C).before args s = true) (h0 : ct ≠ 0) (hin : from0 ≤ pc ∧ pc < to0)
    (kk : W p l e R s m args below meth c H locs cells slots Z (F0 m hp ls [.ref q])) : vx_W p l e R s m args below meth c H locs cells slots Z (F0 m pc ls rest) q := by
  obtain ⟨cell, g1, g3, g2⟩ := g_asS hG hR hk
  exact vx_catch hown [] _ [] ht (fun z hz => nomatch hz) (by simp [covers, hin.1, hin.2]) h0 hlink hcast g1 g3 (by rw [g2]; exact (hG.1.1 ci _ hc).2.1) kk
end WROW
