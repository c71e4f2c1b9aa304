/-! 'new NoSuchElementException()' (printed by tools) -/
set_option maxRecDepth 100000
section NSE
variable {p : Program} {l : Launch} {e : Env} {R : Room} {s : State} {m : MethodId} {args : Array Value} {below : List Frame} {meth : Method} {c : Code} {H H0 : Heap} {locs : List Loc} {cells slots : Nat} {Z : State → Prop}
variable {cc : ByteArray} {pc : Nat} {ls : Array Slot} {rest : List Value} {G : gG} {K : gK} {I : gI} {J : gJ} {X : gX} {A : gI} {B : gJ} {Q : gX} {n : Nat}
theorem nse_w (hts : ∀ w ∈ lw_all, w.before args s = true) (hG : GC G s) : ∀ w ∈ Bundle.ownAtoms0 "PailRow" 227 "java/util/NoSuchElementException" ["java/lang/RuntimeException", "java/lang/Exception"], vx_no w = true → w.before args s = true :=
  List.forall_mem_cons.mpr ⟨(fun _ => hts _ q104),
  List.forall_mem_cons.mpr ⟨(fun _ => hts _ q163),
  List.forall_mem_cons.mpr ⟨(fun _ => hts _ q172),
  List.forall_mem_cons.mpr ⟨(fun _ => hts _ q175),
  List.forall_mem_cons.mpr ⟨(fun _ => hts _ q178),
  List.forall_mem_cons.mpr ⟨(fun _ => hts _ q180),
  List.forall_mem_cons.mpr ⟨(fun _ => hts _ q164),
  List.forall_mem_cons.mpr ⟨(fun _ => hts _ q165),
  List.forall_mem_cons.mpr ⟨(fun _ => hts _ q141),
  List.forall_mem_cons.mpr ⟨(fun _ => hts _ q142),
  List.forall_mem_cons.mpr ⟨(fun _ => hts _ q166),
  List.forall_mem_cons.mpr ⟨(fun _ => hts _ q171),
  List.forall_mem_cons.mpr ⟨(fun _ => hts _ q176),
  List.forall_mem_cons.mpr ⟨(fun _ => hts _ q196),
  List.forall_mem_cons.mpr ⟨(fun _ => hts _ q153),
  List.forall_mem_cons.mpr ⟨(fun _ => hts _ q197),
  List.forall_mem_cons.mpr ⟨(fun _ => hts _ q155),
  List.forall_mem_cons.mpr ⟨(fun _ => hts _ q198),
  List.forall_mem_cons.mpr ⟨(fun _ => hts _ q157),
  List.forall_mem_cons.mpr ⟨(fun _ => hts _ q167),
  List.forall_mem_cons.mpr ⟨(fun h => absurd h (by decide)),
  List.forall_mem_cons.mpr ⟨(fun _ => hts _ q169),
  List.forall_mem_cons.mpr ⟨(fun h => absurd h (by decide)),
  List.forall_mem_cons.mpr ⟨(fun _ => hts _ q159),
  List.forall_mem_cons.mpr ⟨(fun _ => hts _ q1585),
  List.forall_mem_cons.mpr ⟨(fun _ => hts _ q1586),
  List.forall_mem_cons.mpr ⟨(fun _ => hts _ q1587),
  List.forall_mem_cons.mpr ⟨(fun _ => hts _ q1588),
  List.forall_mem_cons.mpr ⟨(fun _ => va_Nw.use rfl (hG.2 _ q1576 rfl)),
  List.forall_mem_cons.mpr ⟨(fun _ => hts _ q1588),
  List.forall_mem_cons.mpr ⟨(fun _ => hts _ q1589),
  List.forall_mem_cons.mpr ⟨(fun _ => hts _ q1590),
  List.forall_mem_cons.mpr ⟨(fun _ => hts _ q1591),
  List.forall_mem_cons.mpr ⟨(fun _ => va_Nw.use rfl (hG.2 _ q146 rfl)),
  List.forall_mem_cons.mpr ⟨(fun _ => hts _ q1591),
  List.forall_mem_cons.mpr ⟨(fun _ => hts _ q1592),
  List.forall_mem_cons.mpr ⟨(fun _ => hts _ q1593),
  List.forall_mem_cons.mpr ⟨(fun _ => hts _ q164),
  List.forall_mem_cons.mpr ⟨(fun _ => va_Nw.use rfl (hG.2 _ q148 rfl)),
  List.forall_mem_cons.mpr ⟨(fun _ => hts _ q1584),
  List.forall_mem_cons.mpr ⟨(fun _ => hts _ q1574),
  List.forall_mem_cons.mpr ⟨(fun _ => va_Nw.use rfl (hG.2 _ q1575 rfl)),
  List.forall_mem_cons.mpr ⟨(fun _ => hts _ q1578),
  List.forall_mem_cons.mpr ⟨(fun _ => hts _ q174),
  List.forall_mem_cons.mpr ⟨(fun _ => hts _ q1579),
  List.forall_mem_cons.mpr ⟨(fun _ => hts _ q1580),
  List.forall_mem_cons.mpr ⟨(fun _ => hts _ q1581),
  List.forall_mem_cons.mpr ⟨(fun _ => hts _ q1582),
  List.forall_mem_cons.mpr ⟨(fun h => absurd h (by decide)),
  List.forall_mem_cons.mpr ⟨(fun h => absurd h (by decide)),
  List.forall_mem_cons.mpr ⟨(fun _ => hts _ q194),
  List.forall_mem_cons.mpr ⟨(fun _ => hts _ q161),
  List.forall_mem_cons.mpr ⟨(fun _ => hts _ q1583),
  fun _ h => nomatch h⟩⟩⟩⟩⟩⟩⟩⟩⟩⟩⟩⟩⟩⟩⟩⟩⟩⟩⟩⟩⟩⟩⟩⟩⟩⟩⟩⟩⟩⟩⟩⟩⟩⟩⟩⟩⟩⟩⟩⟩⟩⟩⟩⟩⟩⟩⟩⟩⟩⟩⟩⟩⟩
theorem s_nse (hx : p.tables.exec = Jvm.exec) (hb : c.code = cc) (hlS : l.stackTraces = false) (hts : ∀ w ∈ lw_all, w.before args s = true) (hown : s.vm.findClass RX1 = some m.cls) (hG : GC G s) (hR : RS G K I J X A B Q H) (hF : freshz G.2.2 K n) (hS : va_S (gA G) s.heap H locs) (hW : SW G s s.heap) (hz : G.2.2 ≤ s.heap.size) (hml : ls.size = c.maxLocals)
    (hcells : cells + 1 ≤ R.cells) (hslots : slots + 6 ≤ R.slots) (hframes : 5 < R.frames) (hlocals : (rest.map fun v => v.category).sum + 81 ≤ R.locals) (d0 : decode cc pc = .ok (.new 225, 3)) (d3 : decode cc (pc + 3) = .ok (.dup, 1)) (d4 : decode cc (pc + 4) = .ok (.invokespecial 227, 3))
    (kk : ∀ (H1 : Heap), RS G (a_up K n (some (.inl 19))) I J X A B Q H1 → va_S (gA G) s.heap H1 locs → W p l e R s m args below meth c H1 locs (cells + 1) (slots + 6) Z (F0 m (pc + 7) ls (.ref n :: rest))) : W p l e R s m args below meth c H locs cells slots Z (F0 m pc ls rest) := by
  have hsz := RS.at hF hR (Nat.le_trans hz hS.1)
  refine vx_make0 (own := RX1) (cls := "java/util/NoSuchElementException") (names := ["java/lang/RuntimeException", "java/lang/Exception"]) (A := gA G) hx hb hlS hown (by decide +kernel) (by decide +kernel) (hts _ q1573) (hts _ q125) (fun w hw => nse_w hts hG w (List.mem_filter.mp hw).1 (List.mem_filter.mp hw).2) (by decide +kernel) hW.2.2.2.2.1 hW.2.2.2.2.2 hS hml d0 d3 d4 hframes hlocals hcells hslots fun ce H1 z1 o1 e1 v1 f1 hS1 => ?_
  subst hsz
  have hc : gCl[19]? = some ("java/util/NoSuchElementException", _, 0) := rfl
  refine kk H1 (hR.born rfl z1 (Nat.le_trans hz hS.1) o1 (fun _ _ _ => rfl) (fun _ _ _ => rfl) (fun _ _ _ => rfl) (fun _ _ => rfl) (fun _ _ => rfl) (fun _ _ => rfl) ?_) hS1
  unfold rs_at
  rw [a_up_self]
  refine ⟨by decide, ?_⟩
  rw [(gT_of hc).2]
  exact ⟨ce, e1, Option.some.inj (f1.symm.trans (hG.1.1 19 _ hc).2.1), v1, fun k hk => absurd hk (Nat.not_lt_zero k)⟩
end NSE
