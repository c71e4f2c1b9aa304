/-! CONTRACTS that may throw; the world of the String constants -/
set_option maxRecDepth 100000
/-- where the String constants lie, and their bytes -/
abbrev aK (G : gG) (i : Nat) : Nat := G.2.1 (100 + i)
abbrev aV (G : gG) (i : Nat) : Nat := G.2.1 (200 + i)
def litS : List (List Int32) := [[109, 97, 110], [119, 97, 121], [112, 97, 105, 108, 115], [119, 101, 108, 108], [115, 112, 105, 108, 108], [98, 97, 99, 107], [116, 104, 114, 111, 119], [119, 105, 110, 100], [99, 101, 108, 108, 115], [98, 117, 114, 110], [110, 111, 114, 116, 104], [101, 97, 115, 116], [115, 111, 117, 116, 104], [119, 101, 115, 116], [114, 111, 119], [114, 117, 110], [115, 116, 111, 112], [97, 105, 109], [103, 105, 118, 101], [97, 116], [111, 114], [97, 110, 100], [110, 111, 116], [111, 117, 116], [109, 105, 110, 117, 116, 101], [116, 104, 114, 111, 119, 110], [108, 111, 115, 116], [98, 117, 114, 110, 115], [119, 97, 116, 101, 114]]
def lenS (i : Nat) : Nat := (litS.getD i []).length
def bytS (i j : Nat) : Int32 := (litS.getD i []).getD j 0
def gS : List (String × Nat × String × Nat) := [("PailRow", 22, "man", 0), ("PailRow", 24, "way", 1), ("PailRow", 26, "pails", 2), ("PailRow", 28, "well", 3), ("PailRow", 30, "spill", 4), ("PailRow", 32, "back", 5), ("PailRow", 34, "throw", 6), ("PailRow", 36, "wind", 7), ("PailRow", 38, "cells", 8), ("PailRow", 40, "burn", 9), ("PailRow", 46, "north", 10), ("PailRow", 48, "east", 11), ("PailRow", 50, "south", 12), ("PailRow", 52, "west", 13), ("PailRow", 57, "row", 14), ("PailRow", 59, "run", 15), ("PailRow", 61, "stop", 16), ("PailRow", 63, "aim", 17), ("PailRow", 65, "give", 18), ("PailRow", 70, "at", 19), ("PailRow", 72, "or", 20), ("PailRow", 74, "and", 21), ("PailRow", 76, "not", 22), ("PailRow", 78, "out", 23), ("PailRow", 80, "minute", 24), ("PailRow", 82, "thrown", 25), ("PailRow", 84, "lost", 26), ("PailRow", 86, "burns", 27), ("PailRow", 88, "water", 28), ("PailRow$SentenceReader", 17, "minute", 24), ("PailRow$SentenceReader", 19, "thrown", 25), ("PailRow$SentenceReader", 21, "lost", 26), ("PailRow$SentenceReader", 23, "burns", 27), ("PailRow$SentenceReader", 25, "water", 28), ("PailRow$SentenceReader", 75, "not", 22), ("PailRow$SentenceReader", 84, "out", 23), ("PailRow$SentenceReader", 70, "and", 21), ("PailRow$SentenceReader", 53, "or", 20), ("PailRow$PlanReader", 30, "at", 19)]
def VR (G : gG) (U : State) : Prop := ∀ e ∈ gS, vk_R e.1 e.2.1 e.2.2.1 (aK G e.2.2.2) U
def SS (G : gG) (U : State) (H : Heap) : Prop := ∀ i : Nat, i < 29 → va_O "java/lang/String" (aK G i) (gA G) U H ∧ va_OF "java/lang/String" "coder" "B" (.int 0) (aK G i) (gA G) U H ∧ va_OF "java/lang/String" "value" "[B" (.ref (aV G i)) (aK G i) (gA G) U H ∧ va_T .byte (aV G i) (lenS i) (fun j => .int (bytS i j)) (gA G) U H
/-- the String constants, the statics: what lies below the tracked heap -/
def SW (G : gG) (U : State) (H : Heap) : Prop := VR G U ∧ SS G U H ∧ va_Z "java/lang/String" "COMPACT_STRINGS" "Z" (.int 1) (gA G) U H ∧ va_Zq "jdk/internal/util/Preconditions" "SIOOBE_FORMATTER" "Ljava/util/function/BiFunction;" (gA G) U H ∧ vx_Zq Bundle.tN "UNASSIGNED_STACK" Bundle.steD (gA G) U H ∧ vx_Zq Bundle.tN "SUPPRESSED_SENTINEL" Bundle.listD (gA G) U H
theorem SW.warm {G : gG} {s U : State} {H : Heap} (hW : s.WarmedH U.vm) (h : SW G s H) : SW G U H :=
  ⟨fun e he => (h.1 e he).warm hW, fun i hi => ⟨va_O.moved hW.alike (h.2.1 i hi).1, va_OF.moved hW.alike (h.2.1 i hi).2.1, va_OF.moved hW.alike (h.2.1 i hi).2.2.1, va_T.moved hW.alike (h.2.1 i hi).2.2.2⟩, va_Z.moved hW.alike h.2.2.1, va_Zq.moved hW.alike h.2.2.2.1, vx_Zq.moved hW.alike h.2.2.2.2.1, vx_Zq.moved hW.alike h.2.2.2.2.2⟩
theorem SW.same {G : gG} {s U : State} {H : Heap} (e : s.vm = U.vm) (h : SW G s H) : SW G U H := by
  have hA : s.vm.Alike U.vm := by rw [e]; exact Vm.Alike.refl _
  exact ⟨fun x he => vk_R.same e.symm (h.1 x he), fun i hi => ⟨va_O.moved hA (h.2.1 i hi).1, va_OF.moved hA (h.2.1 i hi).2.1, va_OF.moved hA (h.2.1 i hi).2.2.1, va_T.moved hA (h.2.1 i hi).2.2.2⟩, va_Z.moved hA h.2.2.1, va_Zq.moved hA h.2.2.2.1, vx_Zq.moved hA h.2.2.2.2.1, vx_Zq.moved hA h.2.2.2.2.2⟩
theorem SW.kept {G : gG} {U : State} {H H1 : Heap} (h : SW G U H) (hq : ∀ a : Nat, a < H.size → ¬ gA G a → H1[a]? = H[a]?) : SW G U H1 :=
  ⟨h.1, fun i hi => ⟨(h.2.1 i hi).1.kept hq, (h.2.1 i hi).2.1.kept hq, (h.2.1 i hi).2.2.1.kept hq, (h.2.1 i hi).2.2.2.kept hq⟩, h.2.2.1.kept hq, va_Zq.kept h.2.2.2.1 hq, h.2.2.2.2.1.kept hq, h.2.2.2.2.2.kept hq⟩
theorem SW.now {G : gG} {s : State} {H : Heap} {locs : List Loc} (h : SW G s s.heap) (hS : va_S (gA G) s.heap H locs) : SW G s H := h.kept hS.2.1
def GSX (G : gG) (K : gK) (I : gI) (J : gJ) (X : gX) (A : gI) (B : gJ) (Q : gX) : State → Prop := fun U => (RS G K I J X A B Q U.heap ∧ GC G U) ∧ SW G U U.heap
/-- how a method ends: it threw (class, address), or it returned -/
abbrev xO : Type := (String × Nat) ⊕ Option Value
def xo (E : String) (b : Nat) (r : Option (Option Value)) : xO := match r with
  | none => .inl (E, b)
  | some v => .inr v
def xQ (G : gG) (o : xO) (K : gK) (I : gI) (J : gJ) (X : gX) (A : gI) (B : gJ) (Q : gX) : Array Value → State → Outcome → State → Prop := fun _ st oc t => (∃ v, o = .inr v ∧ oc = .returned v ∧ GS G K I J X A B Q t) ∧ va_F (gA G) st t
def xX (G : gG) (o : xO) (K : gK) (I : gI) (J : gJ) (X : gX) (A : gI) (B : gJ) (Q : gX) : String → Addr → State → State → Prop := fun E q st t => (o = .inl (E, q) ∧ GS G K I J X A B Q t) ∧ va_F (gA G) st t
def GMetX (l : Launch) (y : MethodName) (code : ByteArray) (maxL : Nat) (ret : Option FieldType) (fr lo : Nat) (G : gG) (av : List Value) (K : gK) (I : gI) (J : gJ) (X : gX) (A : gI) (B : gJ) (Q : gX) (o : xO) (K' : gK) (I' : gI) (J' : gJ) (X' : gX) (A' : gI) (B' : gJ) (Q' : gX) (mc ms : Nat) : Prop :=
  vx_Met l y (ws_ y code maxL ret) ({ frames := fr, cells := mc, slots := ms, locals := lo }) (va_Pc av (GSX G K I J X A B Q)) (xQ G o K' I' J' X' A' B' Q') (xX G o K' I' J' X' A' B' Q') mc ms (gA G)
/-- .. a method with handlers -/
def GMetH (l : Launch) (y : MethodName) (code : ByteArray) (maxL : Nat) (ret : Option FieldType) (hh : List (Nat × Nat × Nat × Nat)) (fr lo : Nat) (G : gG) (av : List Value) (K : gK) (I : gI) (J : gJ) (X : gX) (A : gI) (B : gJ) (Q : gX) (o : xO) (K' : gK) (I' : gI) (J' : gJ) (X' : gX) (A' : gI) (B' : gJ) (Q' : gX) (mc ms : Nat) : Prop :=
  vx_Met l y (wsW_ y code maxL ret hh) ({ frames := fr, cells := mc, slots := ms, locals := lo }) (va_Pc av (GSX G K I J X A B Q)) (xQ G o K' I' J' X' A' B' Q') (xX G o K' I' J' X' A' B' Q') mc ms (gA G)
theorem x_blind {G : gG} {K : gK} {I : gI} {J : gJ} {X : gX} {A : gI} {B : gJ} {Q : gX} {av : List Value} : FrameBlind (va_Pc av (GSX G K I J X A B Q)) := fun a U g mk h => ⟨h.1, ⟨h.2.1.1, GC.same (s := U) (U := U.calling g mk a) rfl h.2.1.2⟩, SW.same (s := U) (U := U.calling g mk a) rfl h.2.2⟩
section XCT
variable {p : Program} {l : Launch} {e : Env} {R : Room} {s : State} {m : MethodId} {args : Array Value} {below : List Frame} {meth : Method} {c : Code} {H H0 : Heap} {locs : List Loc} {cells slots : Nat} {Z : State → Prop}
variable {cc code : ByteArray} {pc nL maxL fr lo n mc ms : Nat} {ret : Option FieldType} {ls : Array Slot} {rest st0 As : List Value} {G : gG} {K K' : gK} {I I' : gI} {J J' : gJ} {X X' : gX} {A A' : gI} {B B' : gJ} {Q Q' : gX} {a b index ci : Nat} {own C owner : String} {x y : MethodName} {o : xO}
theorem x_preV {T : u_T} {N : Nat} (hG : GC G s) (hR : RS G K I J X A B Q H) (hW : SW G s s.heap) (hS : va_S (gA G) s.heap H locs) (hk : K b = some (.inl ci)) (hc : gCl[ci]? = some (C, T, N)) : PreV s H C b (va_Pc (.ref b :: As) (GSX G K I J X A B Q)) As := by
  obtain ⟨cell, g1, g3, g2⟩ := g_asS hG hR hk
  exact ⟨x_blind, ⟨cell, g1, by rw [g3]; rfl, by rw [g2]; exact (hG.1.1 ci _ hc).2.1⟩, fun U hU hW1 => ⟨rfl, ⟨by rw [hU]; exact hR, hG.warm hW1⟩, by rw [hU]; exact (hW.now hS).warm hW1⟩⟩
/-- a String constant as the receiver -/
theorem x_preT {i : Nat} (hG : GC G s) (hR : RS G K I J X A B Q H) (hW : SW G s s.heap) (hS : va_S (gA G) s.heap H locs) (hi : i < 29) : PreV s H "java/lang/String" (aK G i) (va_Pc (.ref (aK G i) :: As) (GSX G K I J X A B Q)) As := by
  obtain ⟨cell, g1, g2, g3, -⟩ := ((hW.now hS).2.1 i hi).1
  exact ⟨x_blind, ⟨cell, g1, g2, g3⟩, fun U hU hW1 => ⟨rfl, ⟨by rw [hU]; exact hR, hG.warm hW1⟩, by rw [hU]; exact (hW.now hS).warm hW1⟩⟩
theorem x_preS {av : List Value} (hG : GC G s) (hR : RS G K I J X A B Q H) (hW : SW G s s.heap) (hS : va_S (gA G) s.heap H locs) : PreS s H (va_Pc av (GSX G K I J X A B Q)) av := ⟨x_blind, fun U hU hW1 => ⟨rfl, ⟨by rw [hU]; exact hR, hG.warm hW1⟩, by rw [hU]; exact (hW.now hS).warm hW1⟩⟩
theorem x_go {av : Array Value} (hr : vx_Run p l e R s m args below meth c H locs cells slots mc ms (F0 m pc ls st0) rest (xQ G o K' I' J' X' A' B' Q' av) (xX G o K' I' J' X' A' B' Q') (gA G)) (hS : va_S (gA G) H0 H locs)
    (kx : ∀ (E : String) (q : Nat) (H1 : Heap) (locs1 : List Loc), o = .inl (E, q) → RS G K' I' J' X' A' B' Q' H1 → va_S (gA G) H0 H1 locs1 → (∃ ce : Cell, H1[q]? = some ce ∧ ce.vm = .none ∧ s.vm.findClass E = some ce.cls) → vx_W p l e R s m args below meth c H1 locs1 (cells + mc) (slots + ms) Z (F0 m pc ls rest) q)
    (kk : ∀ (v : Option Value) (H1 : Heap) (locs1 : List Loc), o = .inr v → RS G K' I' J' X' A' B' Q' H1 → va_S (gA G) H0 H1 locs1 → W p l e R s m args below meth c H1 locs1 (cells + mc) (slots + ms) Z (F0 m (pc + 3) ls (v.toList ++ rest))) : W p l e R s m args below meth c H locs cells slots Z (F0 m pc ls st0) := by
  intro T hT Xs
  rcases hr T hT Xs with ⟨v, st₀, t, T', L, h0, X2, hL, e1, e2, ⟨⟨v2, ho, hv, hb⟩, hF⟩, st⟩ | ⟨q, st₀, t, T', L, E, ce, h0, X2, hL, e1, e2, ⟨⟨ho, hb⟩, hF⟩, hce, hcv, hcl, st⟩
  · cases hv
    obtain ⟨k1, k2, k3⟩ := vx_keep h0 e1 hS (fun _ _ h => h) (fun _ h => h) hL hF
    obtain ⟨t2, a1, b1⟩ := kk _ T'.heap (locs ++ L) ho (by rw [e1]; exact hb.1) k3 T' rfl X2
    exact ⟨t2, st t2 a1, b1⟩
  · obtain ⟨k1, k2, k3⟩ := vx_keep h0 e1 hS (fun _ _ h => h) (fun _ h => h) hL hF
    obtain ⟨t2, a1, b1⟩ := kx E q T'.heap (locs ++ L) ho (by rw [e1]; exact hb.1) k3 ⟨ce, by rw [e1]; exact hce, hcv, hcl⟩ T' rfl X2
    exact ⟨t2, st.trans a1, b1⟩
/-- it always returns -/
theorem x_gor {v : Option Value} {av : Array Value} (hr : vx_Run p l e R s m args below meth c H locs cells slots mc ms (F0 m pc ls st0) rest (xQ G (.inr v) K' I' J' X' A' B' Q' av) (xX G (.inr v) K' I' J' X' A' B' Q') (gA G)) (hS : va_S (gA G) H0 H locs)
    (kk : ∀ (H1 : Heap) (locs1 : List Loc), RS G K' I' J' X' A' B' Q' H1 → va_S (gA G) H0 H1 locs1 → W p l e R s m args below meth c H1 locs1 (cells + mc) (slots + ms) Z (F0 m (pc + 3) ls (v.toList ++ rest))) : W p l e R s m args below meth c H locs cells slots Z (F0 m pc ls st0) :=
  x_go hr hS (fun _ _ _ _ ho => by cases ho) (fun _ H1 l1 ho hR hS => by cases ho; exact kk H1 l1 hR hS)
theorem x_gou {E : String} {r : Option Unit} {av : Array Value} (hr : vx_Run p l e R s m args below meth c H locs cells slots mc ms (F0 m pc ls st0) rest (xQ G (xo E b (r.map fun _ => none)) K' I' J' X' A' B' Q' av) (xX G (xo E b (r.map fun _ => none)) K' I' J' X' A' B' Q') (gA G)) (hS : va_S (gA G) H0 H locs)
    (kx : ∀ (H1 : Heap) (locs1 : List Loc), r = none → RS G K' I' J' X' A' B' Q' H1 → va_S (gA G) H0 H1 locs1 → vx_W p l e R s m args below meth c H1 locs1 (cells + mc) (slots + ms) Z (F0 m pc ls rest) b)
    (kk : ∀ (v : Unit) (H1 : Heap) (locs1 : List Loc), r = some v → RS G K' I' J' X' A' B' Q' H1 → va_S (gA G) H0 H1 locs1 → W p l e R s m args below meth c H1 locs1 (cells + mc) (slots + ms) Z (F0 m (pc + 3) ls rest)) : W p l e R s m args below meth c H locs cells slots Z (F0 m pc ls st0) := by
  cases r with
  | none => exact x_go hr hS (fun _ _ H1 l1 ho hR hS _ => by cases ho; exact kx H1 l1 rfl hR hS) (fun _ _ _ ho => by cases ho)
  | some v => exact x_go hr hS (fun _ _ _ _ ho => by cases ho) (fun _ H1 l1 ho hR hS => by cases ho; exact kk v H1 l1 rfl hR hS)
theorem x_goi {E : String} {r : Option Int32} {av : Array Value} (hr : vx_Run p l e R s m args below meth c H locs cells slots mc ms (F0 m pc ls st0) rest (xQ G (xo E b (r.map fun v => some (.int v))) K' I' J' X' A' B' Q' av) (xX G (xo E b (r.map fun v => some (.int v))) K' I' J' X' A' B' Q') (gA G)) (hS : va_S (gA G) H0 H locs)
    (kx : ∀ (H1 : Heap) (locs1 : List Loc), r = none → RS G K' I' J' X' A' B' Q' H1 → va_S (gA G) H0 H1 locs1 → vx_W p l e R s m args below meth c H1 locs1 (cells + mc) (slots + ms) Z (F0 m pc ls rest) b)
    (kk : ∀ (v : Int32) (H1 : Heap) (locs1 : List Loc), r = some v → RS G K' I' J' X' A' B' Q' H1 → va_S (gA G) H0 H1 locs1 → W p l e R s m args below meth c H1 locs1 (cells + mc) (slots + ms) Z (F0 m (pc + 3) ls (.int v :: rest))) : W p l e R s m args below meth c H locs cells slots Z (F0 m pc ls st0) := by
  cases r with
  | none => exact x_go hr hS (fun _ _ H1 l1 ho hR hS _ => by cases ho; exact kx H1 l1 rfl hR hS) (fun _ _ _ ho => by cases ho)
  | some v => exact x_go hr hS (fun _ _ _ _ ho => by cases ho) (fun _ H1 l1 ho hR hS => by cases ho; exact kk v H1 l1 rfl hR hS)
theorem x_goq {E : String} {r : Option (Option Nat)} {av : Array Value} (hr : vx_Run p l e R s m args below meth c H locs cells slots mc ms (F0 m pc ls st0) rest (xQ G (xo E b (r.map fun v => some (va_rf v))) K' I' J' X' A' B' Q' av) (xX G (xo E b (r.map fun v => some (va_rf v))) K' I' J' X' A' B' Q') (gA G)) (hS : va_S (gA G) H0 H locs)
    (kx : ∀ (H1 : Heap) (locs1 : List Loc), r = none → RS G K' I' J' X' A' B' Q' H1 → va_S (gA G) H0 H1 locs1 → vx_W p l e R s m args below meth c H1 locs1 (cells + mc) (slots + ms) Z (F0 m pc ls rest) b)
    (kk : ∀ (v : Option Nat) (H1 : Heap) (locs1 : List Loc), r = some v → RS G K' I' J' X' A' B' Q' H1 → va_S (gA G) H0 H1 locs1 → W p l e R s m args below meth c H1 locs1 (cells + mc) (slots + ms) Z (F0 m (pc + 3) ls (va_rf v :: rest))) : W p l e R s m args below meth c H locs cells slots Z (F0 m pc ls st0) := by
  cases r with
  | none => exact x_go hr hS (fun _ _ H1 l1 ho hR hS _ => by cases ho; exact kx H1 l1 rfl hR hS) (fun _ _ _ ho => by cases ho)
  | some v => exact x_go hr hS (fun _ _ _ _ ho => by cases ho) (fun _ H1 l1 ho hR hS => by cases ho; exact kk v H1 l1 rfl hR hS)
/-! bodies and ends -/
theorem GMetX.of {av : List Value} {la : List (Nat × Value)} (hy : plainName y.cls = true) (hmax : (lg_sl av).length ≤ maxL) (hla : lv_args 0 av = la)
    (body : ∀ (p : Program) (e : Env) (s : State) (m : MethodId) (below : List Frame) (meth : Method) (c : Code) (ls : Array Slot), p.tables.exec = Jvm.exec → c.code = code → meth.sig.returnType = ret → c.maxLocals = maxL → meth.locks = false → (∀ w ∈ lw_all, w.before av.toArray s = true) → s.vm.findClass y.cls = some m.cls → (meth.name = y.name) → (∀ x ∈ c.exceptionTable.toList, False) → GC G s → RS G K I J X A B Q s.heap → SW G s s.heap → lv_has ls maxL la →
      W p l e ({ frames := fr, cells := mc, slots := ms, locals := lo }) s m av.toArray below meth c s.heap [] 0 0 (vx_MQ below (xQ G o K' I' J' X' A' B' Q') (xX G o K' I' J' X' A' B' Q') av.toArray s mc ms (gA G)) (F0 m 0 ls [])) : GMetX l y code maxL ret fr lo G av K I J X A B Q o K' I' J' X' A' B' Q' mc ms := by
  refine vx_ofW (cc := code) (maxL := maxL) (ret := ret) hy rfl ?_
  intro p e s m args below meth c s₁ B0 hml ht hv
  obtain ⟨rfl, ⟨hR, hG⟩, hW⟩ := hv
  have hts := atoms_spec (ws := ws_ y code maxL ret) B0.pre
  have hl := lv_entry av (n := maxL) hmax
  rw [lg_entry_eq]
  rw [hla] at hl
  exact body p e s m below meth c _ B0.exec B0.bytes B0.returns hml B0.notSynchronized (fun w h => hts w (List.mem_cons_of_mem _ h)) (findClass_of_methodNamed B0.named) (name_of_methodNamed B0.named B0.method).1 ht hG hR hW hl
theorem GMetH.of {hh : List (Nat × Nat × Nat × Nat)} {av : List Value} {la : List (Nat × Value)} (hy : plainName y.cls = true) (hmax : (lg_sl av).length ≤ maxL) (hla : lv_args 0 av = la)
    (body : ∀ (p : Program) (e : Env) (s : State) (m : MethodId) (below : List Frame) (meth : Method) (c : Code) (ls : Array Slot), p.tables.exec = Jvm.exec → c.code = code → meth.sig.returnType = ret → c.maxLocals = maxL → meth.locks = false → (∀ w ∈ lw_all, w.before av.toArray s = true) → s.vm.findClass y.cls = some m.cls → (meth.name = y.name) → c.exceptionTable.toList = tableOf hh → GC G s → RS G K I J X A B Q s.heap → SW G s s.heap → lv_has ls maxL la →
      W p l e ({ frames := fr, cells := mc, slots := ms, locals := lo }) s m av.toArray below meth c s.heap [] 0 0 (vx_MQ below (xQ G o K' I' J' X' A' B' Q') (xX G o K' I' J' X' A' B' Q') av.toArray s mc ms (gA G)) (F0 m 0 ls [])) : GMetH l y code maxL ret hh fr lo G av K I J X A B Q o K' I' J' X' A' B' Q' mc ms := by
  refine vx_ofWH (cc := code) (maxL := maxL) (ret := ret) (hh := hh) hy rfl ?_
  intro p e s m args below meth c s₁ B0 hml hv
  obtain ⟨rfl, ⟨hR, hG⟩, hW⟩ := hv
  have hts := atoms_spec (ws := wsW_ y code maxL ret hh) B0.pre
  have ht := vx_table (x := y) B0 (hts _ List.mem_cons_self)
  have hl := lv_entry av (n := maxL) hmax
  rw [lg_entry_eq]
  rw [hla] at hl
  exact body p e s m below meth c _ B0.exec B0.bytes B0.returns hml B0.notSynchronized (fun w h => hts w (List.mem_cons_of_mem _ h)) (findClass_of_methodNamed B0.named) (name_of_methodNamed B0.named B0.method).1 ht hG hR hW hl
theorem x_nret {v : Int32} {ty : FieldType} (hx : p.tables.exec = Jvm.exec) (hb : c.code = cc) (hr : meth.sig.returnType = some ty) (hn : narrow ty (.int v) = .int v) (hlocks : meth.locks = false) (hG : GC G s) (hR : RS G K I J X A B Q H) (hS : va_S (gA G) s.heap H locs) (ho : o = .inr (some (.int v))) (hdg : decode cc pc = .ok (.ireturn, 1)) : W p l e R s m args below meth c H locs cells slots (vx_MQ below (xQ G o K I J X A B Q) (xX G o K I J X A B Q) args s cells slots (gA G)) (F0 m pc ls [.int v]) :=
  vx_ret (W.zret hx hb hr hn (fun t ht hW => ⟨⟨_, ho, rfl, by rw [ht]; exact hR, hG.warm hW⟩, hS.F ht⟩) hS.2.2 hdg)
theorem x_vret (hx : p.tables.exec = Jvm.exec) (hb : c.code = cc) (hr : meth.sig.returnType = none) (hlocks : meth.locks = false) (hG : GC G s) (hR : RS G K I J X A B Q H) (hS : va_S (gA G) s.heap H locs) (ho : o = .inr none) (hdg : decode cc pc = .ok (.return_, 1)) : W p l e R s m args below meth c H locs cells slots (vx_MQ below (xQ G o K I J X A B Q) (xX G o K I J X A B Q) args s cells slots (gA G)) (F0 m pc ls []) :=
  vx_ret (W.vret hx hb hr (fun t ht hW => ⟨⟨_, ho, rfl, by rw [ht]; exact hR, hG.warm hW⟩, hS.F ht⟩) hS.2.2 hdg)
theorem x_aret {v : Option Nat} {rt : FieldType} (hx : p.tables.exec = Jvm.exec) (hb : c.code = cc) (hr : meth.sig.returnType = some rt) (hrt : (∃ n, rt = .object n) ∨ ∃ t, rt = .array t) (hlocks : meth.locks = false) (hG : GC G s) (hR : RS G K I J X A B Q H) (hS : va_S (gA G) s.heap H locs) (ho : o = .inr (some (va_rf v))) (hdg : decode cc pc = .ok (.areturn, 1)) : W p l e R s m args below meth c H locs cells slots (vx_MQ below (xQ G o K I J X A B Q) (xX G o K I J X A B Q) args s cells slots (gA G)) (F0 m pc ls [va_rf v]) :=
  vx_ret (W.aret hx hb hr hrt (va_rf_or v) (fun t ht hW => ⟨⟨_, ho, rfl, by rw [ht]; exact hR, hG.warm hW⟩, hS.F ht⟩) hS.2.2 hdg)
/-- it throws: an object of ours, of class ci -/
theorem x_out {T : u_T} {N : Nat} {q : Nat} (ht : ∀ x ∈ c.exceptionTable.toList, False) (hlocks : meth.locks = false) (hG : GC G s) (hR : RS G K I J X A B Q H) (hS : va_S (gA G) s.heap H locs) (hk : K q = some (.inl ci)) (hc : gCl[ci]? = some (C, T, N)) (ho : o = .inl (C, q)) : vx_W p l e R s m args below meth c H locs cells slots (vx_MQ below (xQ G o K I J X A B Q) (xX G o K I J X A B Q) args s cells slots (gA G)) (F0 m pc ls rest) q := by
  obtain ⟨cell, g1, g3, g2⟩ := g_asS hG hR hk
  exact vx_out (E := C) (ce := cell) (fun x hx => (ht x hx).elim) hlocks g1 g3 (by rw [g2]; exact (hG.1.1 ci _ hc).2.1) (fun t hT hW => ⟨⟨ho, by rw [hT]; exact hR, hG.warm hW⟩, hS.F hT⟩) hS.2.2 (Nat.le_refl _) (Nat.le_refl _)
end XCT
/-- a private method of a class above, called on an object -/
theorem x_selP {s : State} {args : Array Value} {C nm ds : String} {y : MethodName} {cC : ClassId} (hy : y.cls ≠ "java/lang/invoke/MethodHandle" ∧ y.cls ≠ "java/lang/invoke/VarHandle") (hc : s.vm.findClass C = some cC) (hpriv : (Cond.privateMethod y).before args s = true) (hinst : (Cond.instanceMethod y).before args s = true) (hsm : (Cond.sameMethod y.cls y.cls nm ds).before args s = true) : (Cond.selects C y y).before args s = true := by
  obtain ⟨mk, methM, hnamed, hmethM, -, -⟩ := Cond.instanceMethod_spec hinst
  have hfound : s.methodFound? y.cls y.name y.desc = some mk := State.methodFound?_of_named hnamed hy
  obtain ⟨cn, ck, r1, hcn, hck, hni, -, -⟩ := Cond.sameMethod_found hsm
  have hcls : mk.cls = cn := Option.some.inj ((findClass_of_methodNamed hnamed).symm.trans hcn)
  have hsel : selectMethod {} s.vm cC mk = .method mk := selectMethod_private hmethM (Cond.privateMethod_at hpriv mk methM hnamed hmethM)
  simp only [Cond.before, Cond.holds, Cond.value, hc, hfound, hnamed, hsel, hcls, hck]
  simp; exact hni
/-! the pure functions' word for what may be thrown -/
def tr {α β : Type} (o : Option α) (t : Option β) (k : α → Option β) : Option β := match o with
  | none => t
  | some v => k v
theorem tr_n {α β : Type} {o : Option α} {t : Option β} {k : α → Option β} {r : Option β} (h : o = none) (hf : tr o t k = r) : t = r := by subst h; exact hf
theorem tr_s {α β : Type} {o : Option α} {t : Option β} {k : α → Option β} {r : Option β} {v : α} (h : o = some v) (hf : tr o t k = r) : k v = r := by subst h; exact hf
