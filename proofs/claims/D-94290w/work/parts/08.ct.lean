/-! CONTRACTS over the heap layer: what a method answers, what it makes of the maps; calls by contract; a method's ends; rows driven by the pure function -/
set_option maxRecDepth 100000
def GS (G : gG) (K : gK) (I : gI) (J : gJ) (X : gX) (A : gI) (B : gJ) (Q : gX) : State → Prop := fun U => RS G K I J X A B Q U.heap ∧ GC G U
def gQ (G : gG) (v : Option Value) (K : gK) (I : gI) (J : gJ) (X : gX) (A : gI) (B : gJ) (Q : gX) : Array Value → State → Outcome → State → Prop := fun _ st oc t => (oc = .returned v ∧ GS G K I J X A B Q t) ∧ va_F (gA G) st t
def GMet (l : Launch) (y : MethodName) (code : ByteArray) (maxL : Nat) (ret : Option FieldType) (fr lo : Nat) (G : gG) (av : List Value) (K : gK) (I : gI) (J : gJ) (X : gX) (A : gI) (B : gJ) (Q : gX) (v : Option Value) (K' : gK) (I' : gI) (J' : gJ) (X' : gX) (A' : gI) (B' : gJ) (Q' : gX) (mc ms : Nat) : Prop :=
  Met l y (ws_ y code maxL ret) ({ frames := fr, cells := mc, slots := ms, locals := lo }) (va_Pc av (GS G K I J X A B Q)) (gQ G v K' I' J' X' A' B' Q') mc ms (gA G)
theorem g_blind {G : gG} {K : gK} {I : gI} {J : gJ} {X : gX} {A : gI} {B : gJ} {Q : gX} {av : List Value} : FrameBlind (va_Pc av (GS G K I J X A B Q)) := fun a U g mk h => ⟨h.1, h.2.1, GC.same (s := U) (U := U.calling g mk a) rfl h.2.2⟩
section GCT
variable {p : Program} {l : Launch} {e : Env} {R : Room} {s : State} {m : MethodId} {args : Array Value} {below : List Frame} {meth : Method} {c : Code} {H H0 : Heap} {locs : List Loc} {cells slots : Nat} {Z : State → Prop}
variable {cc code : ByteArray} {pc nL maxL fr lo n mc ms : Nat} {ret : Option FieldType} {ls : Array Slot} {rest st0 As : List Value} {G : gG} {K K' : gK} {I I' : gI} {J J' : gJ} {X X' : gX} {A A' : gI} {B B' : gJ} {Q Q' : gX} {a b index ci : Nat} {own C : String} {y : MethodName}
theorem g_preV {T : u_T} {N : Nat} (hG : GC G s) (hR : RS G K I J X A B Q H) (hk : K b = some (.inl ci)) (hc : gCl[ci]? = some (C, T, N)) : PreV s H C b (va_Pc (.ref b :: As) (GS G K I J X A B Q)) As := by
  obtain ⟨cell, g1, g3, g2⟩ := g_asS hG hR hk
  exact ⟨g_blind, ⟨cell, g1, by rw [g3]; rfl, by rw [g2]; exact (hG.1.1 ci _ hc).2.1⟩, fun U hU hW => ⟨rfl, by rw [hU]; exact hR, hG.warm hW⟩⟩
theorem g_preS {av : List Value} (hG : GC G s) (hR : RS G K I J X A B Q H) : PreS s H (va_Pc av (GS G K I J X A B Q)) av := ⟨g_blind, fun U hU hW => ⟨rfl, by rw [hU]; exact hR, hG.warm hW⟩⟩
theorem g_run {g : JFrame} {v : Option Value} {av : Array Value} (hr : va_Run p l e R s m args below meth c H locs cells slots mc ms g rest (gQ G v K' I' J' X' A' B' Q' av) (gA G)) (hS : va_S (gA G) H0 H locs)
    (kk : ∀ (H1 : Heap) (locs1 : List Loc), RS G K' I' J' X' A' B' Q' H1 → va_S (gA G) H0 H1 locs1 → W p l e R s m args below meth c H1 locs1 (cells + mc) (slots + ms) Z { g with pc := g.pc + 3, stack := v.toList ++ rest }) : W p l e R s m args below meth c H locs cells slots Z g := by
  intro T hT Xs
  obtain ⟨v2, st₀, t, T', L, h0, X2, hL, e1, e2, ⟨⟨hv, hb⟩, hz, hk⟩, st⟩ := hr T hT Xs
  cases hv
  rw [h0] at hz hk
  obtain ⟨t2, a1, b1⟩ := kk T'.heap (locs ++ L) (by rw [e1]; exact hb.1)
    ⟨Nat.le_trans hS.1 (by rw [e1]; exact hz), fun q h1 h2 => by rw [e1, hk q (Nat.lt_of_lt_of_le h1 hS.1) h2]; exact hS.2.1 q h1 h2, fun q hq => by
      rcases List.mem_append.mp hq with h | h
      · exact hS.2.2 q h
      · exact hL q h⟩ T' rfl X2
  exact ⟨t2, st t2 a1, b1⟩
/-- a method's contract out of the walk of its body -/
theorem GMet.of {av : List Value} {v : Option Value} {la : List (Nat × Value)} (hy : plainName y.cls = true) (hmax : (lg_sl av).length ≤ maxL) (hla : lv_args 0 av = la)
    (body : ∀ (p : Program) (e : Env) (s : State) (m : MethodId) (below : List Frame) (meth : Method) (c : Code) (ls : Array Slot), p.tables.exec = Jvm.exec → c.code = code → meth.sig.returnType = ret → c.maxLocals = maxL → meth.locks = false → (∀ w ∈ lw_all, w.before av.toArray s = true) → s.vm.findClass y.cls = some m.cls → (meth.name = y.name) → GC G s → RS G K I J X A B Q s.heap → lv_has ls maxL la →
      W p l e ({ frames := fr, cells := mc, slots := ms, locals := lo }) s m av.toArray below meth c s.heap [] 0 0 (MQ below (gQ G v K' I' J' X' A' B' Q') av.toArray s mc ms (gA G)) (F0 m 0 ls [])) : GMet l y code maxL ret fr lo G av K I J X A B Q v K' I' J' X' A' B' Q' mc ms := by
  refine Met.ofW (cc := code) (maxL := maxL) (ret := ret) hy rfl ?_
  intro p e s m args below meth c s₁ B0 hml hv
  obtain ⟨rfl, hR, hG⟩ := hv
  have hts := atoms_spec (ws := ws_ y code maxL ret) B0.pre
  have hl := lv_entry av (n := maxL) hmax
  rw [lg_entry_eq]
  rw [hla] at hl
  exact body p e s m below meth c _ B0.exec B0.bytes B0.returns hml B0.notSynchronized (fun w h => hts w (List.mem_cons_of_mem _ h)) (findClass_of_methodNamed B0.named) (name_of_methodNamed B0.named B0.method).1 hG hR hl
/-- a method of a class called on an object of it -/
theorem g_cV {T : u_T} {N : Nat} {v : Value} {rm : Nat × Nat} (S : CallFix p m c cc nL s args lw_all own) (hG : GC G s) (hR : RS G K I J X A B Q H) (hS : va_S (gA G) H0 H locs)
    (hM : GMet l y code maxL ret rm.1 rm.2 G (.ref b :: As) K I J X A B Q (some v) K' I' J' X' A' B' Q' mc ms)
    (cw : CallW R s args own C index y code maxL ret (ws_ y code maxL ret) ({ frames := rm.1, cells := mc, slots := ms, locals := rm.2 }) mc ms n)
    (hk : K b = some (.inl ci)) (hc : gCl[ci]? = some (C, T, N)) (hn : As.length = n) (hsize : ls.size = nL) (hW : (rest.map fun v => v.category).sum ≤ 8) (hdg : decode cc pc = .ok (.invokevirtual index, 3)) (hf : cells + mc ≤ R.cells ∧ slots + ms ≤ R.slots) (hstack : st0 = As.reverse ++ .ref b :: rest)
    (kk : ∀ (H1 : Heap) (locs1 : List Loc), RS G K' I' J' X' A' B' Q' H1 → va_S (gA G) H0 H1 locs1 → W p l e R s m args below meth c H1 locs1 (cells + mc) (slots + ms) Z (F0 m (pc + 3) ls (v :: rest))) : W p l e R s m args below meth c H locs cells slots Z (F0 m pc ls st0) :=
  g_run (va_runV S hM cw (g_preV hG hR hk hc) rfl hn hsize hstack (lv_room hW) hdg hf) hS kk
theorem g_cVv {T : u_T} {N : Nat} {rm : Nat × Nat} (S : CallFix p m c cc nL s args lw_all own) (hG : GC G s) (hR : RS G K I J X A B Q H) (hS : va_S (gA G) H0 H locs)
    (hM : GMet l y code maxL ret rm.1 rm.2 G (.ref b :: As) K I J X A B Q none K' I' J' X' A' B' Q' mc ms)
    (cw : CallW R s args own C index y code maxL ret (ws_ y code maxL ret) ({ frames := rm.1, cells := mc, slots := ms, locals := rm.2 }) mc ms n)
    (hk : K b = some (.inl ci)) (hc : gCl[ci]? = some (C, T, N)) (hn : As.length = n) (hsize : ls.size = nL) (hW : (rest.map fun v => v.category).sum ≤ 8) (hdg : decode cc pc = .ok (.invokevirtual index, 3)) (hf : cells + mc ≤ R.cells ∧ slots + ms ≤ R.slots) (hstack : st0 = As.reverse ++ .ref b :: rest)
    (kk : ∀ (H1 : Heap) (locs1 : List Loc), RS G K' I' J' X' A' B' Q' H1 → va_S (gA G) H0 H1 locs1 → W p l e R s m args below meth c H1 locs1 (cells + mc) (slots + ms) Z (F0 m (pc + 3) ls rest)) : W p l e R s m args below meth c H locs cells slots Z (F0 m pc ls st0) :=
  g_run (va_runV S hM cw (g_preV hG hR hk hc) rfl hn hsize hstack (lv_room hW) hdg hf) hS kk
theorem g_cS {v : Value} {rm : Nat × Nat} (S : CallFix p m c cc nL s args lw_all own) (hG : GC G s) (hR : RS G K I J X A B Q H) (hS : va_S (gA G) H0 H locs)
    (hM : GMet l y code maxL ret rm.1 rm.2 G As K I J X A B Q (some v) K' I' J' X' A' B' Q' mc ms)
    (cw : CallB R s args own index y code maxL ret (ws_ y code maxL ret) ({ frames := rm.1, cells := mc, slots := ms, locals := rm.2 }) mc ms n ∧ (Cond.static y).before args s = true)
    (hn : As.length = n) (hsize : ls.size = nL) (hW : (rest.map fun v => v.category).sum ≤ 8) (hdg : decode cc pc = .ok (.invokestatic index, 3)) (hf : cells + mc ≤ R.cells ∧ slots + ms ≤ R.slots) (hstack : st0 = As.reverse ++ rest)
    (kk : ∀ (H1 : Heap) (locs1 : List Loc), RS G K' I' J' X' A' B' Q' H1 → va_S (gA G) H0 H1 locs1 → W p l e R s m args below meth c H1 locs1 (cells + mc) (slots + ms) Z (F0 m (pc + 3) ls (v :: rest))) : W p l e R s m args below meth c H locs cells slots Z (F0 m pc ls st0) :=
  g_run (va_runS S hM cw (g_preS hG hR) rfl hn hsize hstack (lv_room hW) hdg hf) hS kk
theorem g_cSv {rm : Nat × Nat} (S : CallFix p m c cc nL s args lw_all own) (hG : GC G s) (hR : RS G K I J X A B Q H) (hS : va_S (gA G) H0 H locs)
    (hM : GMet l y code maxL ret rm.1 rm.2 G As K I J X A B Q none K' I' J' X' A' B' Q' mc ms)
    (cw : CallB R s args own index y code maxL ret (ws_ y code maxL ret) ({ frames := rm.1, cells := mc, slots := ms, locals := rm.2 }) mc ms n ∧ (Cond.static y).before args s = true)
    (hn : As.length = n) (hsize : ls.size = nL) (hW : (rest.map fun v => v.category).sum ≤ 8) (hdg : decode cc pc = .ok (.invokestatic index, 3)) (hf : cells + mc ≤ R.cells ∧ slots + ms ≤ R.slots) (hstack : st0 = As.reverse ++ rest)
    (kk : ∀ (H1 : Heap) (locs1 : List Loc), RS G K' I' J' X' A' B' Q' H1 → va_S (gA G) H0 H1 locs1 → W p l e R s m args below meth c H1 locs1 (cells + mc) (slots + ms) Z (F0 m (pc + 3) ls rest)) : W p l e R s m args below meth c H locs cells slots Z (F0 m pc ls st0) :=
  g_run (va_runS S hM cw (g_preS hG hR) rfl hn hsize hstack (lv_room hW) hdg hf) hS kk
/-! the ends -/
theorem g_iret {v : Int32} {r : Option Value} (hx : p.tables.exec = Jvm.exec) (hb : c.code = cc) (hr : meth.sig.returnType = some .int) (hlocks : meth.locks = false) (hG : GC G s) (hR : RS G K I J X A B Q H) (hS : va_S (gA G) s.heap H locs) (hv : some (.int v) = r) (hdg : decode cc pc = .ok (.ireturn, 1)) : W p l e R s m args below meth c H locs cells slots (MQ below (gQ G r K I J X A B Q) args s cells slots (gA G)) (F0 m pc ls [.int v]) := by
  subst hv
  exact W.iret hx hb hr (fun t ht hW => ⟨⟨rfl, by rw [ht]; exact hR, hG.warm hW⟩, hS.F ht⟩) hS.2.2 hdg
theorem g_zret {v : Int32} {r : Option Value} (hx : p.tables.exec = Jvm.exec) (hb : c.code = cc) (hr : meth.sig.returnType = some .boolean) (hlocks : meth.locks = false) (hn : narrow .boolean (.int v) = .int v) (hG : GC G s) (hR : RS G K I J X A B Q H) (hS : va_S (gA G) s.heap H locs) (hv : some (.int v) = r) (hdg : decode cc pc = .ok (.ireturn, 1)) : W p l e R s m args below meth c H locs cells slots (MQ below (gQ G r K I J X A B Q) args s cells slots (gA G)) (F0 m pc ls [.int v]) := by
  subst hv
  exact W.zret hx hb hr hn (fun t ht hW => ⟨⟨rfl, by rw [ht]; exact hR, hG.warm hW⟩, hS.F ht⟩) hS.2.2 hdg
theorem g_lret {v : Int64} {r : Option Value} (hx : p.tables.exec = Jvm.exec) (hb : c.code = cc) (hr : meth.sig.returnType = some .long) (hlocks : meth.locks = false) (hG : GC G s) (hR : RS G K I J X A B Q H) (hS : va_S (gA G) s.heap H locs) (hv : some (.long v) = r) (hdg : decode cc pc = .ok (.lreturn, 1)) : W p l e R s m args below meth c H locs cells slots (MQ below (gQ G r K I J X A B Q) args s cells slots (gA G)) (F0 m pc ls [.long v]) := by
  subst hv
  exact W.lret hx hb hr (fun t ht hW => ⟨⟨rfl, by rw [ht]; exact hR, hG.warm hW⟩, hS.F ht⟩) hS.2.2 hdg
theorem g_vret {r : Option Value} (hx : p.tables.exec = Jvm.exec) (hb : c.code = cc) (hr : meth.sig.returnType = none) (hlocks : meth.locks = false) (hG : GC G s) (hR : RS G K I J X A B Q H) (hS : va_S (gA G) s.heap H locs) (hv : none = r) (hdg : decode cc pc = .ok (.return_, 1)) : W p l e R s m args below meth c H locs cells slots (MQ below (gQ G r K I J X A B Q) args s cells slots (gA G)) (F0 m pc ls []) := by
  subst hv
  exact W.vret hx hb hr (fun t ht hW => ⟨⟨rfl, by rw [ht]; exact hR, hG.warm hW⟩, hS.F ht⟩) hS.2.2 hdg
theorem g_aret {v : Option Nat} {r : Option Value} {rt : FieldType} (hx : p.tables.exec = Jvm.exec) (hb : c.code = cc) (hr : meth.sig.returnType = some rt) (hrt : (∃ n, rt = .object n) ∨ ∃ t, rt = .array t) (hlocks : meth.locks = false) (hG : GC G s) (hR : RS G K I J X A B Q H) (hS : va_S (gA G) s.heap H locs) (hv : some (va_rf v) = r) (hdg : decode cc pc = .ok (.areturn, 1)) : W p l e R s m args below meth c H locs cells slots (MQ below (gQ G r K I J X A B Q) args s cells slots (gA G)) (F0 m pc ls [va_rf v]) := by
  subst hv
  exact W.aret hx hb hr hrt (va_rf_or v) (fun t ht hW => ⟨⟨rfl, by rw [ht]; exact hR, hG.warm hW⟩, hS.F ht⟩) hS.2.2 hdg
/-! reads and writes with named places -/
theorem n_geti (hx : p.tables.exec = Jvm.exec) (hb : c.code = cc) (hts : ∀ w ∈ lw_all, w.before args s = true) (hown : s.vm.findClass own = some m.cls) (hG : GC G s) (hR : RS G K I J X A B Q H) {f : Nat} (hL : GFi own index ci f) (hk : K a = some (.inl ci)) {v : Int32} (hv : I f a = v) (hdg : decode cc pc = .ok (.getfield index, 3))
    (kk : W p l e R s m args below meth c H locs cells slots Z (F0 m (pc + 3) ls (.int v :: rest))) : W p l e R s m args below meth c H locs cells slots Z (F0 m pc ls (.ref a :: rest)) := by
  subst hv
  exact g_geti hx hb hts hown hG hR hL hk hdg kk
theorem n_getj (hx : p.tables.exec = Jvm.exec) (hb : c.code = cc) (hts : ∀ w ∈ lw_all, w.before args s = true) (hown : s.vm.findClass own = some m.cls) (hG : GC G s) (hR : RS G K I J X A B Q H) {f : Nat} (hL : GFj own index ci f) (hk : K a = some (.inl ci)) {v : Int64} (hv : J f a = v) (hdg : decode cc pc = .ok (.getfield index, 3))
    (kk : W p l e R s m args below meth c H locs cells slots Z (F0 m (pc + 3) ls (.long v :: rest))) : W p l e R s m args below meth c H locs cells slots Z (F0 m pc ls (.ref a :: rest)) := by
  subst hv
  exact g_getj hx hb hts hown hG hR hL hk hdg kk
theorem n_puti (hx : p.tables.exec = Jvm.exec) (hb : c.code = cc) (hts : ∀ w ∈ lw_all, w.before args s = true) (hown : s.vm.findClass own = some m.cls) (hG : GC G s) {li li' : List (Nat × Nat × Int32)} (hR : RS G K (ov I li) J X A B Q H) (hS : va_S (gA G) H0 H locs) {f : Nat} (hL : GPi own index ci f) (hk : K a = some (.inl ci)) {v w : Int32} (q : Nat) (h1 : li[q]? = some (f, a, w)) (h2 : ovc li q f = true) (h3 : li.set q (f, a, v) = li') (hdg : decode cc pc = .ok (.putfield index, 3))
    (kk : ∀ (H1 : Heap) (locs1 : List Loc), RS G K (ov I li') J X A B Q H1 → va_S (gA G) H0 H1 locs1 → W p l e R s m args below meth c H1 locs1 cells slots Z (F0 m (pc + 3) ls rest)) : W p l e R s m args below meth c H locs cells slots Z (F0 m pc ls (.int v :: .ref a :: rest)) :=
  g_puti hx hb hts hown hG hR hS hL hk hdg fun H1 locs1 hR1 hS1 => kk H1 locs1 (by rw [ov_set q h1 h2 h3] at hR1; exact hR1) hS1
theorem n_putz (hx : p.tables.exec = Jvm.exec) (hb : c.code = cc) (hts : ∀ w ∈ lw_all, w.before args s = true) (hown : s.vm.findClass own = some m.cls) (hG : GC G s) {li li' : List (Nat × Nat × Int32)} (hR : RS G K (ov I li) J X A B Q H) (hS : va_S (gA G) H0 H locs) {f : Nat} (hL : GPz own index ci f) (hk : K a = some (.inl ci)) {v w : Int32} (hn : narrow .boolean (.int v) = .int v) (q : Nat) (h1 : li[q]? = some (f, a, w)) (h2 : ovc li q f = true) (h3 : li.set q (f, a, v) = li') (hdg : decode cc pc = .ok (.putfield index, 3))
    (kk : ∀ (H1 : Heap) (locs1 : List Loc), RS G K (ov I li') J X A B Q H1 → va_S (gA G) H0 H1 locs1 → W p l e R s m args below meth c H1 locs1 cells slots Z (F0 m (pc + 3) ls rest)) : W p l e R s m args below meth c H locs cells slots Z (F0 m pc ls (.int v :: .ref a :: rest)) :=
  g_putz hx hb hts hown hG hR hS hL hk hn hdg fun H1 locs1 hR1 hS1 => kk H1 locs1 (by rw [ov_set q h1 h2 h3] at hR1; exact hR1) hS1
theorem n_putj (hx : p.tables.exec = Jvm.exec) (hb : c.code = cc) (hts : ∀ w ∈ lw_all, w.before args s = true) (hown : s.vm.findClass own = some m.cls) (hG : GC G s) {li li' : List (Nat × Nat × Int64)} (hR : RS G K I (ov J li) X A B Q H) (hS : va_S (gA G) H0 H locs) {f : Nat} (hL : GPj own index ci f) (hk : K a = some (.inl ci)) {v w : Int64} (q : Nat) (h1 : li[q]? = some (f, a, w)) (h2 : ovc li q f = true) (h3 : li.set q (f, a, v) = li') (hdg : decode cc pc = .ok (.putfield index, 3))
    (kk : ∀ (H1 : Heap) (locs1 : List Loc), RS G K I (ov J li') X A B Q H1 → va_S (gA G) H0 H1 locs1 → W p l e R s m args below meth c H1 locs1 cells slots Z (F0 m (pc + 3) ls rest)) : W p l e R s m args below meth c H locs cells slots Z (F0 m pc ls (.long v :: .ref a :: rest)) :=
  g_putj hx hb hts hown hG hR hS hL hk hdg fun H1 locs1 hR1 hS1 => kk H1 locs1 (by rw [ov_set q h1 h2 h3] at hR1; exact hR1) hS1
theorem n_putx (hx : p.tables.exec = Jvm.exec) (hb : c.code = cc) (hts : ∀ w ∈ lw_all, w.before args s = true) (hown : s.vm.findClass own = some m.cls) (hG : GC G s) {li li' : List (Nat × Nat × Option Nat)} (hR : RS G K I J (ov X li) A B Q H) (hS : va_S (gA G) H0 H locs) {f : Nat} (hL : GPx own index ci f) (hk : K a = some (.inl ci)) {v w : Option Nat} (q : Nat) (h1 : li[q]? = some (f, a, w)) (h2 : ovc li q f = true) (h3 : li.set q (f, a, v) = li') (hdg : decode cc pc = .ok (.putfield index, 3))
    (kk : ∀ (H1 : Heap) (locs1 : List Loc), RS G K I J (ov X li') A B Q H1 → va_S (gA G) H0 H1 locs1 → W p l e R s m args below meth c H1 locs1 cells slots Z (F0 m (pc + 3) ls rest)) : W p l e R s m args below meth c H locs cells slots Z (F0 m pc ls (va_rf v :: .ref a :: rest)) :=
  g_putx hx hb hts hown hG hR hS hL hk hdg fun H1 locs1 hR1 hS1 => kk H1 locs1 (by rw [ov_set q h1 h2 h3] at hR1; exact hR1) hS1
theorem n_iald (hx : p.tables.exec = Jvm.exec) (hb : c.code = cc) (hG : GC G s) (hR : RS G K I J X A B Q H) {i : Int32} {x : Nat → Int32} {v : Int32} (hk : K a = some (.inr (0, n))) (hin : vp_in i n) (hA : A a = x) (hv : v = x i.toNatClampNeg) (hdg : decode cc pc = .ok (.iaload, 1))
    (kk : W p l e R s m args below meth c H locs cells slots Z (F0 m (pc + 1) ls (.int v :: rest))) : W p l e R s m args below meth c H locs cells slots Z (F0 m pc ls (.int i :: .ref a :: rest)) := by
  subst hA
  subst hv
  exact g_iald hx hb hG hR hk hin hdg kk
theorem n_zald (hx : p.tables.exec = Jvm.exec) (hb : c.code = cc) (hG : GC G s) (hR : RS G K I J X A B Q H) {i : Int32} {x : Nat → Int32} {v : Int32} (hk : K a = some (.inr (1, n))) (hin : vp_in i n) (hA : A a = x) (hv : v = x i.toNatClampNeg) (hdg : decode cc pc = .ok (.baload, 1))
    (kk : W p l e R s m args below meth c H locs cells slots Z (F0 m (pc + 1) ls (.int v :: rest))) : W p l e R s m args below meth c H locs cells slots Z (F0 m pc ls (.int i :: .ref a :: rest)) := by
  subst hA
  subst hv
  exact g_zald hx hb hG hR hk hin hdg kk
theorem n_bald (hx : p.tables.exec = Jvm.exec) (hb : c.code = cc) (hG : GC G s) (hR : RS G K I J X A B Q H) {i : Int32} {x : Nat → Int32} {v : Int32} (hk : K a = some (.inr (2, n))) (hin : vp_in i n) (hA : A a = x) (hv : v = x i.toNatClampNeg) (hdg : decode cc pc = .ok (.baload, 1))
    (kk : W p l e R s m args below meth c H locs cells slots Z (F0 m (pc + 1) ls (.int v :: rest))) : W p l e R s m args below meth c H locs cells slots Z (F0 m pc ls (.int i :: .ref a :: rest)) := by
  subst hA
  subst hv
  exact g_bald hx hb hG hR hk hin hdg kk
theorem n_lald (hx : p.tables.exec = Jvm.exec) (hb : c.code = cc) (hG : GC G s) (hR : RS G K I J X A B Q H) {i : Int32} {x : Nat → Int64} {v : Int64} (hk : K a = some (.inr (3, n))) (hin : vp_in i n) (hA : B a = x) (hv : v = x i.toNatClampNeg) (hdg : decode cc pc = .ok (.laload, 1))
    (kk : W p l e R s m args below meth c H locs cells slots Z (F0 m (pc + 1) ls (.long v :: rest))) : W p l e R s m args below meth c H locs cells slots Z (F0 m pc ls (.int i :: .ref a :: rest)) := by
  subst hA
  subst hv
  exact g_lald hx hb hG hR hk hin hdg kk
theorem n_iast (hx : p.tables.exec = Jvm.exec) (hb : c.code = cc) (hG : GC G s) {la la' : List (Nat × (Nat → Int32))} (hR : RS G K I J X (ova A la) B Q H) (hS : va_S (gA G) H0 H locs) {i : Int32} {x x' : Nat → Int32} {v : Int32} (hk : K a = some (.inr (0, n))) (hin : vp_in i n) (hN : nda (la.map (fun e => e.1))) (q : Nat) (h1 : la[q]? = some (a, x)) (hx' : x' = upd x i.toNatClampNeg v) (h3 : la.set q (a, x') = la') (hdg : decode cc pc = .ok (.iastore, 1))
    (kk : ∀ (H1 : Heap) (locs1 : List Loc), RS G K I J X (ova A la') B Q H1 → va_S (gA G) H0 H1 locs1 → W p l e R s m args below meth c H1 locs1 cells slots Z (F0 m (pc + 1) ls rest)) : W p l e R s m args below meth c H locs cells slots Z (F0 m pc ls (.int v :: .int i :: .ref a :: rest)) := by
  subst hx'
  refine g_iast hx hb hG hR hS hk hin hdg fun H1 locs1 hR1 hS1 => kk H1 locs1 ?_ hS1
  rw [ova_get q hN h1, ova_set q hN h1 h3] at hR1
  exact hR1
theorem n_zast (hx : p.tables.exec = Jvm.exec) (hb : c.code = cc) (hG : GC G s) {la la' : List (Nat × (Nat → Int32))} (hR : RS G K I J X (ova A la) B Q H) (hS : va_S (gA G) H0 H locs) {i : Int32} {x x' : Nat → Int32} {v : Int32} (hk : K a = some (.inr (1, n))) (hin : vp_in i n) (hN : nda (la.map (fun e => e.1))) (q : Nat) (h1 : la[q]? = some (a, x)) (hx' : x' = upd x i.toNatClampNeg (vp_nar .boolean v)) (h3 : la.set q (a, x') = la') (hdg : decode cc pc = .ok (.bastore, 1))
    (kk : ∀ (H1 : Heap) (locs1 : List Loc), RS G K I J X (ova A la') B Q H1 → va_S (gA G) H0 H1 locs1 → W p l e R s m args below meth c H1 locs1 cells slots Z (F0 m (pc + 1) ls rest)) : W p l e R s m args below meth c H locs cells slots Z (F0 m pc ls (.int v :: .int i :: .ref a :: rest)) := by
  subst hx'
  refine g_zast hx hb hG hR hS hk hin hdg fun H1 locs1 hR1 hS1 => kk H1 locs1 ?_ hS1
  rw [ova_get q hN h1, ova_set q hN h1 h3] at hR1
  exact hR1
theorem n_bast (hx : p.tables.exec = Jvm.exec) (hb : c.code = cc) (hG : GC G s) {la la' : List (Nat × (Nat → Int32))} (hR : RS G K I J X (ova A la) B Q H) (hS : va_S (gA G) H0 H locs) {i : Int32} {x x' : Nat → Int32} {v : Int32} (hk : K a = some (.inr (2, n))) (hin : vp_in i n) (hN : nda (la.map (fun e => e.1))) (q : Nat) (h1 : la[q]? = some (a, x)) (hx' : x' = upd x i.toNatClampNeg (vp_nar .byte v)) (h3 : la.set q (a, x') = la') (hdg : decode cc pc = .ok (.bastore, 1))
    (kk : ∀ (H1 : Heap) (locs1 : List Loc), RS G K I J X (ova A la') B Q H1 → va_S (gA G) H0 H1 locs1 → W p l e R s m args below meth c H1 locs1 cells slots Z (F0 m (pc + 1) ls rest)) : W p l e R s m args below meth c H locs cells slots Z (F0 m pc ls (.int v :: .int i :: .ref a :: rest)) := by
  subst hx'
  refine g_bast hx hb hG hR hS hk hin hdg fun H1 locs1 hR1 hS1 => kk H1 locs1 ?_ hS1
  rw [ova_get q hN h1, ova_set q hN h1 h3] at hR1
  exact hR1
theorem n_last (hx : p.tables.exec = Jvm.exec) (hb : c.code = cc) (hG : GC G s) {la la' : List (Nat × (Nat → Int64))} (hR : RS G K I J X A (ova B la) Q H) (hS : va_S (gA G) H0 H locs) {i : Int32} {x x' : Nat → Int64} {v : Int64} (hk : K a = some (.inr (3, n))) (hin : vp_in i n) (hN : nda (la.map (fun e => e.1))) (q : Nat) (h1 : la[q]? = some (a, x)) (hx' : x' = vp_updL x i.toNatClampNeg v) (h3 : la.set q (a, x') = la') (hdg : decode cc pc = .ok (.lastore, 1))
    (kk : ∀ (H1 : Heap) (locs1 : List Loc), RS G K I J X A (ova B la') Q H1 → va_S (gA G) H0 H1 locs1 → W p l e R s m args below meth c H1 locs1 cells slots Z (F0 m (pc + 1) ls rest)) : W p l e R s m args below meth c H locs cells slots Z (F0 m pc ls (.long v :: .int i :: .ref a :: rest)) := by
  subst hx'
  refine g_last hx hb hG hR hS hk hin hdg fun H1 locs1 hR1 hS1 => kk H1 locs1 ?_ hS1
  rw [ova_get q hN h1, ova_set q hN h1 h3] at hR1
  exact hR1
theorem n_iadd (hx : p.tables.exec = Jvm.exec) (hb : c.code = cc) {x y v : Int32} (hv : v = x + y) (hdg : decode cc pc = .ok (.iadd, 1)) (k : W p l e R s m args below meth c H locs cells slots Z (F0 m (pc + 1) ls (.int v :: rest))) : W p l e R s m args below meth c H locs cells slots Z (F0 m pc ls (.int y :: .int x :: rest)) := by
  subst hv
  exact lv_iadd hx hb hdg k
theorem n_isub (hx : p.tables.exec = Jvm.exec) (hb : c.code = cc) {x y v : Int32} (hv : v = x - y) (hdg : decode cc pc = .ok (.isub, 1)) (k : W p l e R s m args below meth c H locs cells slots Z (F0 m (pc + 1) ls (.int v :: rest))) : W p l e R s m args below meth c H locs cells slots Z (F0 m pc ls (.int y :: .int x :: rest)) := by
  subst hv
  exact lv_isub hx hb hdg k
theorem n_imul (hx : p.tables.exec = Jvm.exec) (hb : c.code = cc) {x y v : Int32} (hv : v = x * y) (hdg : decode cc pc = .ok (.imul, 1)) (k : W p l e R s m args below meth c H locs cells slots Z (F0 m (pc + 1) ls (.int v :: rest))) : W p l e R s m args below meth c H locs cells slots Z (F0 m pc ls (.int y :: .int x :: rest)) := by
  subst hv
  exact lv_imul hx hb hdg k
theorem n_iand (hx : p.tables.exec = Jvm.exec) (hb : c.code = cc) {x y v : Int32} (hv : v = x &&& y) (hdg : decode cc pc = .ok (.iand, 1)) (k : W p l e R s m args below meth c H locs cells slots Z (F0 m (pc + 1) ls (.int v :: rest))) : W p l e R s m args below meth c H locs cells slots Z (F0 m pc ls (.int y :: .int x :: rest)) := by
  subst hv
  exact lv_iand hx hb hdg k
theorem n_ior (hx : p.tables.exec = Jvm.exec) (hb : c.code = cc) {x y v : Int32} (hv : v = x ||| y) (hdg : decode cc pc = .ok (.ior, 1)) (k : W p l e R s m args below meth c H locs cells slots Z (F0 m (pc + 1) ls (.int v :: rest))) : W p l e R s m args below meth c H locs cells slots Z (F0 m pc ls (.int y :: .int x :: rest)) := by
  subst hv
  exact lv_ior hx hb hdg k
theorem n_ixor (hx : p.tables.exec = Jvm.exec) (hb : c.code = cc) {x y v : Int32} (hv : v = x ^^^ y) (hdg : decode cc pc = .ok (.ixor, 1)) (k : W p l e R s m args below meth c H locs cells slots Z (F0 m (pc + 1) ls (.int v :: rest))) : W p l e R s m args below meth c H locs cells slots Z (F0 m pc ls (.int y :: .int x :: rest)) := by
  subst hv
  exact lv_ixor hx hb hdg k
theorem n_ishl (hx : p.tables.exec = Jvm.exec) (hb : c.code = cc) {x y v : Int32} (hv : v = x <<< (y &&& 31)) (hdg : decode cc pc = .ok (.ishl, 1)) (k : W p l e R s m args below meth c H locs cells slots Z (F0 m (pc + 1) ls (.int v :: rest))) : W p l e R s m args below meth c H locs cells slots Z (F0 m pc ls (.int y :: .int x :: rest)) := by
  subst hv
  exact lv_ishl hx hb hdg k
theorem n_ishr (hx : p.tables.exec = Jvm.exec) (hb : c.code = cc) {x y v : Int32} (hv : v = x >>> (y &&& 31)) (hdg : decode cc pc = .ok (.ishr, 1)) (k : W p l e R s m args below meth c H locs cells slots Z (F0 m (pc + 1) ls (.int v :: rest))) : W p l e R s m args below meth c H locs cells slots Z (F0 m pc ls (.int y :: .int x :: rest)) := by
  subst hv
  exact lv_ishr hx hb hdg k
theorem n_iushr (hx : p.tables.exec = Jvm.exec) (hb : c.code = cc) {x y v : Int32} (hv : v = (x.toUInt32 >>> (y.toUInt32 &&& Int32.toUInt32 31)).toInt32) (hdg : decode cc pc = .ok (.iushr, 1)) (k : W p l e R s m args below meth c H locs cells slots Z (F0 m (pc + 1) ls (.int v :: rest))) : W p l e R s m args below meth c H locs cells slots Z (F0 m pc ls (.int y :: .int x :: rest)) := lv_iushr hx hb hdg hv.symm k
theorem n_idiv (hx : p.tables.exec = Jvm.exec) (hb : c.code = cc) {x y v : Int32} (hne : ¬ y = 0) (hv : v = x / y) (hdg : decode cc pc = .ok (.idiv, 1)) (k : W p l e R s m args below meth c H locs cells slots Z (F0 m (pc + 1) ls (.int v :: rest))) : W p l e R s m args below meth c H locs cells slots Z (F0 m pc ls (.int y :: .int x :: rest)) := by
  subst hv
  exact lv_idiv hx hb hdg hne k
theorem n_irem (hx : p.tables.exec = Jvm.exec) (hb : c.code = cc) {x y v : Int32} (hne : ¬ y = 0) (hv : v = x - x / y * y) (hdg : decode cc pc = .ok (.irem, 1)) (k : W p l e R s m args below meth c H locs cells slots Z (F0 m (pc + 1) ls (.int v :: rest))) : W p l e R s m args below meth c H locs cells slots Z (F0 m pc ls (.int y :: .int x :: rest)) := by
  subst hv
  exact lv_irem hx hb hdg hne k
theorem n_ineg (hx : p.tables.exec = Jvm.exec) (hb : c.code = cc) {x v : Int32} (hv : v = -x) (hdg : decode cc pc = .ok (.ineg, 1)) (k : W p l e R s m args below meth c H locs cells slots Z (F0 m (pc + 1) ls (.int v :: rest))) : W p l e R s m args below meth c H locs cells slots Z (F0 m pc ls (.int x :: rest)) := by
  subst hv
  exact lv_ineg hx hb hdg k
theorem n_i2l (hx : p.tables.exec = Jvm.exec) (hb : c.code = cc) {x : Int32} {v : Int64} (hv : v = x.toInt64) (hdg : decode cc pc = .ok (.i2l, 1)) (k : W p l e R s m args below meth c H locs cells slots Z (F0 m (pc + 1) ls (.long v :: rest))) : W p l e R s m args below meth c H locs cells slots Z (F0 m pc ls (.int x :: rest)) := lv_i2l hx hb hdg hv.symm k
theorem n_i2b (hx : p.tables.exec = Jvm.exec) (hb : c.code = cc) {x v : Int32} (hv : v = x.toInt8.toInt32) (hdg : decode cc pc = .ok (.i2b, 1)) (k : W p l e R s m args below meth c H locs cells slots Z (F0 m (pc + 1) ls (.int v :: rest))) : W p l e R s m args below meth c H locs cells slots Z (F0 m pc ls (.int x :: rest)) := lv_i2b hx hb hdg hv.symm k
theorem n_lcmp (hx : p.tables.exec = Jvm.exec) (hb : c.code = cc) {x y : Int64} {v : Int32} (hv : v = lg_cmp x y) (hdg : decode cc pc = .ok (.lcmp, 1)) (k : W p l e R s m args below meth c H locs cells slots Z (F0 m (pc + 1) ls (.int v :: rest))) : W p l e R s m args below meth c H locs cells slots Z (F0 m pc ls (.long y :: .long x :: rest)) := by
  subst hv
  exact W.lcmp hx hb hdg k
theorem n_ladd (hx : p.tables.exec = Jvm.exec) (hb : c.code = cc) {x y v : Int64} (hv : v = x + y) (hdg : decode cc pc = .ok (.ladd, 1)) (k : W p l e R s m args below meth c H locs cells slots Z (F0 m (pc + 1) ls (.long v :: rest))) : W p l e R s m args below meth c H locs cells slots Z (F0 m pc ls (.long y :: .long x :: rest)) := by
  subst hv
  exact lv_ladd hx hb hdg k
theorem n_lsub (hx : p.tables.exec = Jvm.exec) (hb : c.code = cc) {x y v : Int64} (hv : v = x - y) (hdg : decode cc pc = .ok (.lsub, 1)) (k : W p l e R s m args below meth c H locs cells slots Z (F0 m (pc + 1) ls (.long v :: rest))) : W p l e R s m args below meth c H locs cells slots Z (F0 m pc ls (.long y :: .long x :: rest)) := by
  subst hv
  exact lv_lsub hx hb hdg k
theorem n_lmul (hx : p.tables.exec = Jvm.exec) (hb : c.code = cc) {x y v : Int64} (hv : v = x * y) (hdg : decode cc pc = .ok (.lmul, 1)) (k : W p l e R s m args below meth c H locs cells slots Z (F0 m (pc + 1) ls (.long v :: rest))) : W p l e R s m args below meth c H locs cells slots Z (F0 m pc ls (.long y :: .long x :: rest)) := by
  subst hv
  exact lv_lmul hx hb hdg k
theorem n_lor (hx : p.tables.exec = Jvm.exec) (hb : c.code = cc) {x y v : Int64} (hv : v = x ||| y) (hdg : decode cc pc = .ok (.lor, 1)) (k : W p l e R s m args below meth c H locs cells slots Z (F0 m (pc + 1) ls (.long v :: rest))) : W p l e R s m args below meth c H locs cells slots Z (F0 m pc ls (.long y :: .long x :: rest)) := by
  subst hv
  exact lv_lor hx hb hdg k
theorem n_land (hx : p.tables.exec = Jvm.exec) (hb : c.code = cc) {x y v : Int64} (hv : v = x &&& y) (hdg : decode cc pc = .ok (.land, 1)) (k : W p l e R s m args below meth c H locs cells slots Z (F0 m (pc + 1) ls (.long v :: rest))) : W p l e R s m args below meth c H locs cells slots Z (F0 m pc ls (.long y :: .long x :: rest)) := by
  subst hv
  exact lv_land hx hb hdg k
theorem n_lshl (hx : p.tables.exec = Jvm.exec) (hb : c.code = cc) {x v : Int64} {y : Int32} (hv : v = x <<< (y.toInt64 &&& 63)) (hdg : decode cc pc = .ok (.lshl, 1)) (k : W p l e R s m args below meth c H locs cells slots Z (F0 m (pc + 1) ls (.long v :: rest))) : W p l e R s m args below meth c H locs cells slots Z (F0 m pc ls (.int y :: .long x :: rest)) := lv_lshl hx hb hdg hv.symm k
end GCT
abbrev inb (i : Int32) (n : Nat) : Prop := ¬ (i < 0 ∨ n ≤ i.toNatClampNeg)
theorem ov_sc {α : Type} {I : Nat → Nat → α} {f a : Nat} {v : α} {l : List (Nat × Nat × α)} (h : I f a = v) (h2 : ov I l = I) : ov I ((f, a, v) :: l) = I := by
  show i_up (ov I l) f a v = I
  rw [h2]
  exact i_up_same h
theorem ova_sc {α : Type} {A : Nat → α} {a : Nat} {v : α} {l : List (Nat × α)} (h : A a = v) (h2 : ova A l = A) : ova A ((a, v) :: l) = A := by
  show a_up (ova A l) a v = A
  rw [h2]
  exact a_up_same h
theorem RS.to {G : gG} {K : gK} {I I' : gI} {J J' : gJ} {X X' : gX} {A A' : gI} {B B' : gJ} {Q Q' : gX} {H : Heap} (h : RS G K I J X A B Q H) (e1 : I = I') (e2 : J = J') (e3 : X = X') (e4 : A = A') (e5 : B = B') (e6 : Q = Q') : RS G K I' J' X' A' B' Q' H := by
  subst e1; subst e2; subst e3; subst e4; subst e5; subst e6
  exact h
theorem nz_0 : narrow .boolean (.int 0) = .int 0 := by decide
theorem nz_1 : narrow .boolean (.int 1) = .int 1 := by decide
/-- an object whose arrays stand behind it, each at its place: rows (field, place, sort, length) -/
def Sh (K : gK) (X : gX) (a ci : Nat) (rows : List (Nat × Nat × Nat × Nat)) : Prop := K a = some (.inl ci) ∧ ∀ (k : Nat) (q : Nat × Nat × Nat × Nat), rows[k]? = some q → K (a + q.2.1) = some (.inr (q.2.2.1, q.2.2.2)) ∧ X q.1 a = some (a + q.2.1)
section GC0
variable {p : Program} {l : Launch} {e : Env} {R : Room} {s : State} {m : MethodId} {args : Array Value} {below : List Frame} {meth : Method} {c : Code} {H H0 : Heap} {locs : List Loc} {cells slots : Nat} {Z : State → Prop}
variable {cc code : ByteArray} {pc nL maxL n : Nat} {ret : Option FieldType} {ls : Array Slot} {rest st0 As : List Value} {G : gG} {K K' : gK} {I I' : gI} {J J' : gJ} {X X' : gX} {A A' : gI} {B B' : gJ} {Q Q' : gX} {b index ci : Nat} {own C : String} {y : MethodName}
theorem g0_cV {T : u_T} {N : Nat} {v : Value} {rm : Nat × Nat} (S : CallFix p m c cc nL s args lw_all own) (hG : GC G s) (hR : RS G K I J X A B Q H) (hS : va_S (gA G) H0 H locs)
    (hM : GMet l y code maxL ret rm.1 rm.2 G (.ref b :: As) K I J X A B Q (some v) K' I' J' X' A' B' Q' 0 0)
    (cw : CallW R s args own C index y code maxL ret (ws_ y code maxL ret) ({ frames := rm.1, cells := 0, slots := 0, locals := rm.2 }) 0 0 n)
    (hk : K b = some (.inl ci)) (hc : gCl[ci]? = some (C, T, N)) (hn : As.length = n) (hsize : ls.size = nL) (hW : (rest.map fun v => v.category).sum ≤ 8) (hdg : decode cc pc = .ok (.invokevirtual index, 3)) (hf : cells ≤ R.cells ∧ slots ≤ R.slots) (hstack : st0 = As.reverse ++ .ref b :: rest)
    (kk : ∀ (H1 : Heap) (locs1 : List Loc), RS G K' I' J' X' A' B' Q' H1 → va_S (gA G) H0 H1 locs1 → W p l e R s m args below meth c H1 locs1 cells slots Z (F0 m (pc + 3) ls (v :: rest))) : W p l e R s m args below meth c H locs cells slots Z (F0 m pc ls st0) := g_cV S hG hR hS hM cw hk hc hn hsize hW hdg hf hstack kk
theorem g0_cVv {T : u_T} {N : Nat} {rm : Nat × Nat} (S : CallFix p m c cc nL s args lw_all own) (hG : GC G s) (hR : RS G K I J X A B Q H) (hS : va_S (gA G) H0 H locs)
    (hM : GMet l y code maxL ret rm.1 rm.2 G (.ref b :: As) K I J X A B Q none K' I' J' X' A' B' Q' 0 0)
    (cw : CallW R s args own C index y code maxL ret (ws_ y code maxL ret) ({ frames := rm.1, cells := 0, slots := 0, locals := rm.2 }) 0 0 n)
    (hk : K b = some (.inl ci)) (hc : gCl[ci]? = some (C, T, N)) (hn : As.length = n) (hsize : ls.size = nL) (hW : (rest.map fun v => v.category).sum ≤ 8) (hdg : decode cc pc = .ok (.invokevirtual index, 3)) (hf : cells ≤ R.cells ∧ slots ≤ R.slots) (hstack : st0 = As.reverse ++ .ref b :: rest)
    (kk : ∀ (H1 : Heap) (locs1 : List Loc), RS G K' I' J' X' A' B' Q' H1 → va_S (gA G) H0 H1 locs1 → W p l e R s m args below meth c H1 locs1 cells slots Z (F0 m (pc + 3) ls rest)) : W p l e R s m args below meth c H locs cells slots Z (F0 m pc ls st0) := g_cVv S hG hR hS hM cw hk hc hn hsize hW hdg hf hstack kk
theorem g0_cS {v : Value} {rm : Nat × Nat} (S : CallFix p m c cc nL s args lw_all own) (hG : GC G s) (hR : RS G K I J X A B Q H) (hS : va_S (gA G) H0 H locs)
    (hM : GMet l y code maxL ret rm.1 rm.2 G As K I J X A B Q (some v) K' I' J' X' A' B' Q' 0 0)
    (cw : CallB R s args own index y code maxL ret (ws_ y code maxL ret) ({ frames := rm.1, cells := 0, slots := 0, locals := rm.2 }) 0 0 n ∧ (Cond.static y).before args s = true)
    (hn : As.length = n) (hsize : ls.size = nL) (hW : (rest.map fun v => v.category).sum ≤ 8) (hdg : decode cc pc = .ok (.invokestatic index, 3)) (hf : cells ≤ R.cells ∧ slots ≤ R.slots) (hstack : st0 = As.reverse ++ rest)
    (kk : ∀ (H1 : Heap) (locs1 : List Loc), RS G K' I' J' X' A' B' Q' H1 → va_S (gA G) H0 H1 locs1 → W p l e R s m args below meth c H1 locs1 cells slots Z (F0 m (pc + 3) ls (v :: rest))) : W p l e R s m args below meth c H locs cells slots Z (F0 m pc ls st0) := g_cS S hG hR hS hM cw hn hsize hW hdg hf hstack kk
theorem g0_cSv {rm : Nat × Nat} (S : CallFix p m c cc nL s args lw_all own) (hG : GC G s) (hR : RS G K I J X A B Q H) (hS : va_S (gA G) H0 H locs)
    (hM : GMet l y code maxL ret rm.1 rm.2 G As K I J X A B Q none K' I' J' X' A' B' Q' 0 0)
    (cw : CallB R s args own index y code maxL ret (ws_ y code maxL ret) ({ frames := rm.1, cells := 0, slots := 0, locals := rm.2 }) 0 0 n ∧ (Cond.static y).before args s = true)
    (hn : As.length = n) (hsize : ls.size = nL) (hW : (rest.map fun v => v.category).sum ≤ 8) (hdg : decode cc pc = .ok (.invokestatic index, 3)) (hf : cells ≤ R.cells ∧ slots ≤ R.slots) (hstack : st0 = As.reverse ++ rest)
    (kk : ∀ (H1 : Heap) (locs1 : List Loc), RS G K' I' J' X' A' B' Q' H1 → va_S (gA G) H0 H1 locs1 → W p l e R s m args below meth c H1 locs1 cells slots Z (F0 m (pc + 3) ls rest)) : W p l e R s m args below meth c H locs cells slots Z (F0 m pc ls st0) := g_cSv S hG hR hS hM cw hn hsize hW hdg hf hstack kk
end GC0
