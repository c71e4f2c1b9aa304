/-! rows for methods that may throw; String's methods -/
set_option maxRecDepth 100000
section RROW
variable {p : Program} {l : Launch} {e : Env} {R : Room} {s : State} {m : MethodId} {args : Array Value} {below : List Frame} {meth : Method} {c : Code} {H H0 : Heap} {locs : List Loc} {cells slots : Nat} {Z : State → Prop}
variable {cc code : ByteArray} {pc nL : Nat} {ls : Array Slot} {rest st0 As : List Value} {G : gG} {K K' : gK} {I I' : gI} {J J' : gJ} {X X' : gX} {A A' : gI} {B B' : gJ} {Q Q' : gX} {b index i : Nat} {own : String}
theorem x0_gor {v : Option Value} {av : Array Value} (hr : vx_Run p l e R s m args below meth c H locs cells slots 0 0 (F0 m pc ls st0) rest (xQ G (.inr v) K' I' J' X' A' B' Q' av) (xX G (.inr v) K' I' J' X' A' B' Q') (gA G)) (hS : va_S (gA G) H0 H locs)
    (kk : ∀ (H1 : Heap) (locs1 : List Loc), RS G K' I' J' X' A' B' Q' H1 → va_S (gA G) H0 H1 locs1 → W p l e R s m args below meth c H1 locs1 cells slots Z (F0 m (pc + 3) ls (v.toList ++ rest))) : W p l e R s m args below meth c H locs cells slots Z (F0 m pc ls st0) := x_gor hr hS kk
theorem x0_gou {E : String} {r : Option Unit} {av : Array Value} (hr : vx_Run p l e R s m args below meth c H locs cells slots 0 0 (F0 m pc ls st0) rest (xQ G (xo E b (r.map fun _ => none)) K' I' J' X' A' B' Q' av) (xX G (xo E b (r.map fun _ => none)) K' I' J' X' A' B' Q') (gA G)) (hS : va_S (gA G) H0 H locs)
    (kx : ∀ (H1 : Heap) (locs1 : List Loc), r = none → RS G K' I' J' X' A' B' Q' H1 → va_S (gA G) H0 H1 locs1 → vx_W p l e R s m args below meth c H1 locs1 cells slots Z (F0 m pc ls rest) b)
    (kk : ∀ (v : Unit) (H1 : Heap) (locs1 : List Loc), r = some v → RS G K' I' J' X' A' B' Q' H1 → va_S (gA G) H0 H1 locs1 → W p l e R s m args below meth c H1 locs1 cells slots Z (F0 m (pc + 3) ls rest)) : W p l e R s m args below meth c H locs cells slots Z (F0 m pc ls st0) := x_gou hr hS kx kk
theorem x0_goi {E : String} {r : Option Int32} {av : Array Value} (hr : vx_Run p l e R s m args below meth c H locs cells slots 0 0 (F0 m pc ls st0) rest (xQ G (xo E b (r.map fun v => some (.int v))) K' I' J' X' A' B' Q' av) (xX G (xo E b (r.map fun v => some (.int v))) K' I' J' X' A' B' Q') (gA G)) (hS : va_S (gA G) H0 H locs)
    (kx : ∀ (H1 : Heap) (locs1 : List Loc), r = none → RS G K' I' J' X' A' B' Q' H1 → va_S (gA G) H0 H1 locs1 → vx_W p l e R s m args below meth c H1 locs1 cells slots Z (F0 m pc ls rest) b)
    (kk : ∀ (v : Int32) (H1 : Heap) (locs1 : List Loc), r = some v → RS G K' I' J' X' A' B' Q' H1 → va_S (gA G) H0 H1 locs1 → W p l e R s m args below meth c H1 locs1 cells slots Z (F0 m (pc + 3) ls (.int v :: rest))) : W p l e R s m args below meth c H locs cells slots Z (F0 m pc ls st0) := x_goi hr hS kx kk
theorem nI_back {x : Int32} (h : ¬ x < 0) : Int32.ofNat x.toNatClampNeg = x := by
  obtain ⟨n, hn, rfl⟩ := nI_of h
  exact congrArg nI (nI_clamp hn)
theorem g_slen (S : CallFix p m c cc nL s args lw_all own) (hG : GC G s) (hR : RS G K I J X A B Q H) (hW : SW G s s.heap) (hS : va_S (gA G) s.heap H locs) (hi : i < 29)
    (cw : CallW R s args own "java/lang/String" index yJ2_length cJ2_length 1 (some .int) (ws_ yJ2_length cJ2_length 1 (some .int)) ({ frames := 1, cells := 0, slots := 0, locals := 20 }) 0 0 0) (hsize : ls.size = nL) (hrest : (rest.map fun v => v.category).sum ≤ 8) (hdg : decode cc pc = .ok (.invokevirtual index, 3)) (hf : cells ≤ R.cells ∧ slots ≤ R.slots)
    (kk : ∀ (H1 : Heap) (locs1 : List Loc), RS G K I J X A B Q H1 → va_S (gA G) s.heap H1 locs1 → W p l e R s m args below meth c H1 locs1 cells slots Z (F0 m (pc + 3) ls (.int (Int32.ofNat (lenS i)) :: rest))) : W p l e R s m args below meth c H locs cells slots Z (F0 m pc ls (.ref (aK G i) :: rest)) :=
  x0_gor (vx_runV (As := []) (rest := rest) S (sJ2_length l G K I J X A B Q i hi) cw (x_preT hG hR hW hS hi) rfl rfl hsize rfl (lv_room hrest) hdg hf) hS kk
theorem g_scha {x : Int32} (S : CallFix p m c cc nL s args lw_all own) (hG : GC G s) (hR : RS G K I J X A B Q H) (hW : SW G s s.heap) (hS : va_S (gA G) s.heap H locs) (hi : i < 29) (hin : inb x (lenS i))
    (cw : CallW R s args own "java/lang/String" index yJ2_charAt cJ2_charAt 2 (some .char) (ws_ yJ2_charAt cJ2_charAt 2 (some .char)) ({ frames := 3, cells := 0, slots := 0, locals := 64 }) 0 0 1) (hsize : ls.size = nL) (hrest : (rest.map fun v => v.category).sum ≤ 8) (hdg : decode cc pc = .ok (.invokevirtual index, 3)) (hf : cells ≤ R.cells ∧ slots ≤ R.slots)
    (kk : ∀ (H1 : Heap) (locs1 : List Loc), RS G K I J X A B Q H1 → va_S (gA G) s.heap H1 locs1 → W p l e R s m args below meth c H1 locs1 cells slots Z (F0 m (pc + 3) ls (.int (bytS i x.toNatClampNeg) :: rest))) : W p l e R s m args below meth c H locs cells slots Z (F0 m pc ls (.int x :: .ref (aK G i) :: rest)) := by
  have hx := nI_back (x := x) (fun h => hin (Or.inl h))
  have hk : x.toNatClampNeg < lenS i := Nat.not_le.mp fun q => hin (Or.inr q)
  have h := sJ2_charAt l G K I J X A B Q i x.toNatClampNeg hi hk
  rw [hx] at h
  exact x0_gor (vx_runV (As := [.int x]) (rest := rest) (b := aK G i) S h cw (x_preT hG hR hW hS hi) rfl rfl hsize rfl (lv_room hrest) hdg hf) hS kk
end RROW
