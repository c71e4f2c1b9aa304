/-! rows of the law's own walk -/
set_option maxRecDepth 100000
section LROW
variable {p : Program} {l : Launch} {e : Env} {R : Room} {s : State} {m : MethodId} {args : Array Value} {below : List Frame} {meth : Method} {c : Code} {H H0 : Heap} {locs : List Loc} {cells slots : Nat} {Z : State → Prop}
variable {cc : ByteArray} {pc : Nat} {ls : Array Slot} {rest : List Value} {G : gG} {K : gK} {I : gI} {J : gJ} {X : gX} {A : gI} {B : gJ} {Q : gX} {n : Nat}
theorem s_newal {N : Nat} {v : Int32} (hx : p.tables.exec = Jvm.exec) (hb : c.code = cc) (harr : (Cond.arrayClass .long).before args s = true) (hG : GC G s) (hR : RS G K I J X A B Q H) (hF : freshz G.2.2 K n) (hS : va_S (gA G) H0 H locs) (hz : G.2.2 ≤ H0.size)
    (hn : ¬ v < 0) (hN : v.toNatClampNeg = N) (hbytes : N * 8 ≤ 536870912) (hcells : cells + 1 ≤ R.cells) (hslots : slots + N ≤ R.slots) (hdg : decode cc pc = .ok (.newarray .long, 2))
    (kk : ∀ (H1 : Heap), RS G (a_up K n (some (.inr (3, N)))) I J X A (a_up B n (fun _ => 0)) Q H1 → va_S (gA G) H0 H1 locs →
      W p l e R s m args below meth c H1 locs (cells + 1) (slots + N) Z (F0 m (pc + 2) ls (.ref n :: rest))) : W p l e R s m args below meth c H locs cells slots Z (F0 m pc ls (.int v :: rest)) := by
  have hsz := RS.at hF hR (Nat.le_trans hz hS.1)
  refine g_newal hx hb harr hG hR hS hz hn hN hbytes hcells hslots hdg fun q H1 hq z1 hR1 hS1 => ?_
  have e : q = n := hq.trans hsz
  subst e
  exact kk H1 hR1 hS1
end LROW
section LROW2
variable {p : Program} {l : Launch} {e : Env} {R : Room} {s : State} {m : MethodId} {args : Array Value} {below : List Frame} {meth : Method} {c : Code} {H H0 : Heap} {locs : List Loc} {cells slots : Nat} {Z : State → Prop}
variable {cc : ByteArray} {pc index n L : Nat} {own : String} {ls : Array Slot} {rest : List Value} {G : gG} {K : gK} {I : gI} {J : gJ} {X : gX} {A : gI} {B : gJ} {Q : gX} {ci : Nat} {ks : List (Nat ⊕ (Nat × Nat))} {li : List (Nat × Nat × Int32)} {lj : List (Nat × Nat × Int64)} {lx : List (Nat × Nat × Option Nat)} {la : List (Nat × (Nat → Int32))} {lb : List (Nat × (Nat → Int64))} {lq : List (Nat × (Nat → Option Nat))}
theorem b_cIY {nL maxL nA mc ms L2 : Nat} {code : ByteArray} {y : MethodName} {st0 As : List Value} {rm : Nat × Nat} {ks0 ks2 ks' : List (Nat ⊕ (Nat × Nat))} {li2 li' : List (Nat × Nat × Int32)} {lj2 lj' : List (Nat × Nat × Int64)} {lx2 lx' : List (Nat × Nat × Option Nat)} {la2 la' : List (Nat × (Nat → Int32))} {lb2 lb' : List (Nat × (Nat → Int64))} {lq2 lq' : List (Nat × (Nat → Option Nat))}
    (S : CallFix p m c cc nL s args lw_all own) (hG : GC G s) (hB : BR G K I J X A B Q n (L + 1) ks li lj lx la lb lq H) (hS : va_S (gA G) H0 H locs) (hS' : va_S (gA G) s.heap H locs) (hW0 : SW G s s.heap) (hks : ks = ks0 ++ [.inl ci]) (ho : (∀ e ∈ li, e.2.1 < L) ∧ (∀ e ∈ lj, e.2.1 < L) ∧ (∀ e ∈ lx, e.2.1 < L) ∧ (∀ e ∈ la, e.1 < L) ∧ (∀ e ∈ lb, e.1 < L) ∧ ∀ e ∈ lq, e.1 < L)
    (hM : ∀ (K : gK) (I : gI) (J : gJ) (X : gX) (A : gI) (B : gJ) (Q : gX), fresh G K (n + L) → GMetX l y code maxL none rm.1 rm.2 G (.ref (n + L) :: As) (bK K (n + L) [.inl ci]) (bm 0 I (n + L) 1 []) (bm 0 J (n + L) 1 []) (bm none X (n + L) 1 []) (ba z0 A (n + L) 1 []) (ba z1 B (n + L) 1 []) (ba z2 Q (n + L) 1 []) (.inr none) (bK K (n + L) ks2) (bm 0 I (n + L) L2 li2) (bm 0 J (n + L) L2 lj2) (bm none X (n + L) L2 lx2) (ba z0 A (n + L) L2 la2) (ba z1 B (n + L) L2 lb2) (ba z2 Q (n + L) L2 lq2) mc ms)
    (cw : CallB R s args own index y code maxL none (ws_ y code maxL none) ({ frames := rm.1, cells := mc, slots := ms, locals := rm.2 }) mc ms nA ∧ y.name = "<init>" ∧ (Cond.instanceMethod y).before args s = true)
    (hn : As.length = nA) (hsize : ls.size = nL) (hW : (rest.map fun v => v.category).sum ≤ 8) (hdg : decode cc pc = .ok (.invokespecial index, 3)) (hf : cells + mc ≤ R.cells ∧ slots + ms ≤ R.slots) (hstack : st0 = As.reverse ++ .ref (n + L) :: rest)
    (h2 : ks2.length = L2) (ho2 : (∀ e ∈ li2, e.2.1 < L2) ∧ (∀ e ∈ lj2, e.2.1 < L2) ∧ (∀ e ∈ lx2, e.2.1 < L2) ∧ (∀ e ∈ la2, e.1 < L2) ∧ (∀ e ∈ lb2, e.1 < L2) ∧ ∀ e ∈ lq2, e.1 < L2)
    (ek : ks0 ++ ks2 = ks') (ei : shf L li2 ++ li = li') (ej : shf L lj2 ++ lj = lj') (ex : shf L lx2 ++ lx = lx') (ea : sha L la2 ++ la = la') (eb : sha L lb2 ++ lb = lb') (eq : sha L lq2 ++ lq = lq')
    (kk : ∀ (H1 : Heap) (locs1 : List Loc), BR G K I J X A B Q n (L + L2) ks' li' lj' lx' la' lb' lq' H1 → va_S (gA G) H0 H1 locs1 → W p l e R s m args below meth c H1 locs1 (cells + mc) (slots + ms) Z (F0 m (pc + 3) ls rest)) : W p l e R s m args below meth c H locs cells slots Z (F0 m pc ls st0) := by
  subst hks ek ei ej ex ea eb eq
  obtain ⟨hF, hl, -, hR⟩ := hB
  have hl0 : ks0.length = L := by
    rw [List.length_append] at hl
    exact Nat.succ.inj hl
  obtain ⟨o1, o2, o3, o4, o5, o6⟩ := ho
  obtain ⟨p1, p2, p3, p4, p5, p6⟩ := ho2
  rw [← bK_app hl0, ← show bm 0 (bm 0 I n L li) (n + L) 1 [] = bm 0 I n (L + 1) li from bm_app o1, ← show bm 0 (bm 0 J n L lj) (n + L) 1 [] = bm 0 J n (L + 1) lj from bm_app o2, ← show bm none (bm none X n L lx) (n + L) 1 [] = bm none X n (L + 1) lx from bm_app o3, ← show ba z0 (ba z0 A n L la) (n + L) 1 [] = ba z0 A n (L + 1) la from ba_app o4, ← show ba z1 (ba z1 B n L lb) (n + L) 1 [] = ba z1 B n (L + 1) lb from ba_app o5, ← show ba z2 (ba z2 Q n L lq) (n + L) 1 [] = ba z2 Q n (L + 1) lq from ba_app o6] at hR
  refine x_gor (vx_runI S (hM _ _ _ _ _ _ _ (hF.bK hl0)) cw (x_preS hG hR hW0 hS') rfl hn hsize hstack (lv_room hW) hdg hf) hS fun H1 locs1 hR1 hS1 => kk H1 locs1 ⟨hF, by rw [List.length_append, hl0, h2], ⟨?_, ?_, ?_, ?_, ?_, ?_⟩, ?_⟩ hS1
  · exact shf_off o1 p1
  · exact shf_off o2 p2
  · exact shf_off o3 p3
  · exact sha_off o4 p4
  · exact sha_off o5 p5
  · exact sha_off o6 p6
  · rw [bK_app hl0, bm_app o1, bm_app o2, bm_app o3, ba_app o4, ba_app o5, ba_app o6] at hR1
    exact hR1
end LROW2
