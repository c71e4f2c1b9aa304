/-! the constructors (printed) -/
set_option maxRecDepth 100000
section BCX
variable {p : Program} {l : Launch} {e : Env} {R : Room} {s : State} {m : MethodId} {args : Array Value} {below : List Frame} {meth : Method} {c : Code} {H H0 : Heap} {locs : List Loc} {cells slots : Nat} {Z : State → Prop}
variable {cc : ByteArray} {pc : Nat} {ls : Array Slot} {rest : List Value} {index ci : Nat} {own C : String}
variable {G : gG} {K : gK} {I : gI} {J : gJ} {X : gX} {A : gI} {B : gJ} {Q : gX} {n L : Nat} {ks : List (Nat ⊕ (Nat × Nat))} {li : List (Nat × Nat × Int32)} {lj : List (Nat × Nat × Int64)} {lx : List (Nat × Nat × Option Nat)} {la : List (Nat × (Nat → Int32))} {lb : List (Nat × (Nat → Int64))} {lq : List (Nat × (Nat → Option Nat))}
theorem b_cIX {nL maxL nA mc ms L2 : Nat} {code : ByteArray} {y : MethodName} {st0 As : List Value} {rm : Nat × Nat} {ks0 ks2 ks' : List (Nat ⊕ (Nat × Nat))} {li2 li' : List (Nat × Nat × Int32)} {lj2 lj' : List (Nat × Nat × Int64)} {lx2 lx' : List (Nat × Nat × Option Nat)} {la2 la' : List (Nat × (Nat → Int32))} {lb2 lb' : List (Nat × (Nat → Int64))} {lq2 lq' : List (Nat × (Nat → Option Nat))}
    (S : CallFix p m c cc nL s args lw_all own) (hG : GC G s) (hW0 : SW G s s.heap) (hB : BR G K I J X A B Q n (L + 1) ks li lj lx la lb lq H) (hS : va_S (gA G) s.heap H locs) (hks : ks = ks0 ++ [.inl ci]) (ho : (∀ e ∈ li, e.2.1 < L) ∧ (∀ e ∈ lj, e.2.1 < L) ∧ (∀ e ∈ lx, e.2.1 < L) ∧ (∀ e ∈ la, e.1 < L) ∧ (∀ e ∈ lb, e.1 < L) ∧ ∀ e ∈ lq, e.1 < L)
    (hM : ∀ (K : gK) (I : gI) (J : gJ) (X : gX) (A : gI) (B : gJ) (Q : gX), fresh G K (n + L) → GMetX l y code maxL none rm.1 rm.2 G (.ref (n + L) :: As) (bK K (n + L) [.inl ci]) (bm 0 I (n + L) 1 []) (bm 0 J (n + L) 1 []) (bm none X (n + L) 1 []) (ba z0 A (n + L) 1 []) (ba z1 B (n + L) 1 []) (ba z2 Q (n + L) 1 []) (.inr none) (bK K (n + L) ks2) (bm 0 I (n + L) L2 li2) (bm 0 J (n + L) L2 lj2) (bm none X (n + L) L2 lx2) (ba z0 A (n + L) L2 la2) (ba z1 B (n + L) L2 lb2) (ba z2 Q (n + L) L2 lq2) mc ms)
    (cw : CallB R s args own index y code maxL none (ws_ y code maxL none) ({ frames := rm.1, cells := mc, slots := ms, locals := rm.2 }) mc ms nA ∧ y.name = "<init>" ∧ (Cond.instanceMethod y).before args s = true)
    (hn : As.length = nA) (hsize : ls.size = nL) (hW : (rest.map fun v => v.category).sum ≤ 8) (hdg : decode cc pc = .ok (.invokespecial index, 3)) (hf : cells + mc ≤ R.cells ∧ slots + ms ≤ R.slots) (hstack : st0 = As.reverse ++ .ref (n + L) :: rest)
    (h2 : ks2.length = L2) (ho2 : (∀ e ∈ li2, e.2.1 < L2) ∧ (∀ e ∈ lj2, e.2.1 < L2) ∧ (∀ e ∈ lx2, e.2.1 < L2) ∧ (∀ e ∈ la2, e.1 < L2) ∧ (∀ e ∈ lb2, e.1 < L2) ∧ ∀ e ∈ lq2, e.1 < L2)
    (ek : ks0 ++ ks2 = ks') (ei : shf L li2 ++ li = li') (ej : shf L lj2 ++ lj = lj') (ex : shf L lx2 ++ lx = lx') (ea : sha L la2 ++ la = la') (eb : sha L lb2 ++ lb = lb') (eq : sha L lq2 ++ lq = lq')
    (kk : ∀ (H1 : Heap) (locs1 : List Loc), BR G K I J X A B Q n (L + L2) ks' li' lj' lx' la' lb' lq' H1 → va_S (gA G) s.heap H1 locs1 → W p l e R s m args below meth c H1 locs1 (cells + mc) (slots + ms) Z (F0 m (pc + 3) ls rest)) : W p l e R s m args below meth c H locs cells slots Z (F0 m pc ls st0) := by
  subst hks ek ei ej ex ea eb eq
  obtain ⟨hF, hl, -, hR⟩ := hB
  have hl0 : ks0.length = L := by
    rw [List.length_append] at hl
    exact Nat.succ.inj hl
  obtain ⟨o1, o2, o3, o4, o5, o6⟩ := ho
  obtain ⟨p1, p2, p3, p4, p5, p6⟩ := ho2
  rw [← bK_app hl0, ← show bm 0 (bm 0 I n L li) (n + L) 1 [] = bm 0 I n (L + 1) li from bm_app o1, ← show bm 0 (bm 0 J n L lj) (n + L) 1 [] = bm 0 J n (L + 1) lj from bm_app o2, ← show bm none (bm none X n L lx) (n + L) 1 [] = bm none X n (L + 1) lx from bm_app o3, ← show ba z0 (ba z0 A n L la) (n + L) 1 [] = ba z0 A n (L + 1) la from ba_app o4, ← show ba z1 (ba z1 B n L lb) (n + L) 1 [] = ba z1 B n (L + 1) lb from ba_app o5, ← show ba z2 (ba z2 Q n L lq) (n + L) 1 [] = ba z2 Q n (L + 1) lq from ba_app o6] at hR
  refine x_gor (vx_runI S (hM _ _ _ _ _ _ _ (hF.bK hl0)) cw (x_preS hG hR hW0 hS) rfl hn hsize hstack (lv_room hW) hdg hf) hS fun H1 locs1 hR1 hS1 => kk H1 locs1 ⟨hF, by rw [List.length_append, hl0, h2], ⟨?_, ?_, ?_, ?_, ?_, ?_⟩, ?_⟩ hS1
  · exact shf_off o1 p1
  · exact shf_off o2 p2
  · exact shf_off o3 p3
  · exact sha_off o4 p4
  · exact sha_off o5 p5
  · exact sha_off o6 p6
  · rw [bK_app hl0, bm_app o1, bm_app o2, bm_app o3, ba_app o4, ba_app o5, ba_app o6] at hR1
    exact hR1
theorem b_cIXN {host : String} {nL maxL nA mc ms L2 : Nat} {code : ByteArray} {y : MethodName} {st0 As : List Value} {rm : Nat × Nat} {ks0 ks2 ks' : List (Nat ⊕ (Nat × Nat))} {li2 li' : List (Nat × Nat × Int32)} {lj2 lj' : List (Nat × Nat × Int64)} {lx2 lx' : List (Nat × Nat × Option Nat)} {la2 la' : List (Nat × (Nat → Int32))} {lb2 lb' : List (Nat × (Nat → Int64))} {lq2 lq' : List (Nat × (Nat → Option Nat))}
    (S : CallFix p m c cc nL s args lw_all own) (hG : GC G s) (hW0 : SW G s s.heap) (hB : BR G K I J X A B Q n (L + 1) ks li lj lx la lb lq H) (hS : va_S (gA G) s.heap H locs) (hks : ks = ks0 ++ [.inl ci]) (ho : (∀ e ∈ li, e.2.1 < L) ∧ (∀ e ∈ lj, e.2.1 < L) ∧ (∀ e ∈ lx, e.2.1 < L) ∧ (∀ e ∈ la, e.1 < L) ∧ (∀ e ∈ lb, e.1 < L) ∧ ∀ e ∈ lq, e.1 < L)
    (hM : ∀ (K : gK) (I : gI) (J : gJ) (X : gX) (A : gI) (B : gJ) (Q : gX), fresh G K (n + L) → GMetX l y code maxL none rm.1 rm.2 G (.ref (n + L) :: As) (bK K (n + L) [.inl ci]) (bm 0 I (n + L) 1 []) (bm 0 J (n + L) 1 []) (bm none X (n + L) 1 []) (ba z0 A (n + L) 1 []) (ba z1 B (n + L) 1 []) (ba z2 Q (n + L) 1 []) (.inr none) (bK K (n + L) ks2) (bm 0 I (n + L) L2 li2) (bm 0 J (n + L) L2 lj2) (bm none X (n + L) L2 lx2) (ba z0 A (n + L) L2 la2) (ba z1 B (n + L) L2 lb2) (ba z2 Q (n + L) L2 lq2) mc ms)
    (cw : va_CN R s args own index y host code maxL none (ws_ y code maxL none) ({ frames := rm.1, cells := mc, slots := ms, locals := rm.2 }) mc ms nA ∧ y.name = "<init>" ∧ (Cond.instanceMethod y).before args s = true)
    (hn : As.length = nA) (hsize : ls.size = nL) (hW : (rest.map fun v => v.category).sum ≤ 8) (hdg : decode cc pc = .ok (.invokespecial index, 3)) (hf : cells + mc ≤ R.cells ∧ slots + ms ≤ R.slots) (hstack : st0 = As.reverse ++ .ref (n + L) :: rest)
    (h2 : ks2.length = L2) (ho2 : (∀ e ∈ li2, e.2.1 < L2) ∧ (∀ e ∈ lj2, e.2.1 < L2) ∧ (∀ e ∈ lx2, e.2.1 < L2) ∧ (∀ e ∈ la2, e.1 < L2) ∧ (∀ e ∈ lb2, e.1 < L2) ∧ ∀ e ∈ lq2, e.1 < L2)
    (ek : ks0 ++ ks2 = ks') (ei : shf L li2 ++ li = li') (ej : shf L lj2 ++ lj = lj') (ex : shf L lx2 ++ lx = lx') (ea : sha L la2 ++ la = la') (eb : sha L lb2 ++ lb = lb') (eq : sha L lq2 ++ lq = lq')
    (kk : ∀ (H1 : Heap) (locs1 : List Loc), BR G K I J X A B Q n (L + L2) ks' li' lj' lx' la' lb' lq' H1 → va_S (gA G) s.heap H1 locs1 → W p l e R s m args below meth c H1 locs1 (cells + mc) (slots + ms) Z (F0 m (pc + 3) ls rest)) : W p l e R s m args below meth c H locs cells slots Z (F0 m pc ls st0) := by
  subst hks ek ei ej ex ea eb eq
  obtain ⟨hF, hl, -, hR⟩ := hB
  have hl0 : ks0.length = L := by
    rw [List.length_append] at hl
    exact Nat.succ.inj hl
  obtain ⟨o1, o2, o3, o4, o5, o6⟩ := ho
  obtain ⟨p1, p2, p3, p4, p5, p6⟩ := ho2
  rw [← bK_app hl0, ← show bm 0 (bm 0 I n L li) (n + L) 1 [] = bm 0 I n (L + 1) li from bm_app o1, ← show bm 0 (bm 0 J n L lj) (n + L) 1 [] = bm 0 J n (L + 1) lj from bm_app o2, ← show bm none (bm none X n L lx) (n + L) 1 [] = bm none X n (L + 1) lx from bm_app o3, ← show ba z0 (ba z0 A n L la) (n + L) 1 [] = ba z0 A n (L + 1) la from ba_app o4, ← show ba z1 (ba z1 B n L lb) (n + L) 1 [] = ba z1 B n (L + 1) lb from ba_app o5, ← show ba z2 (ba z2 Q n L lq) (n + L) 1 [] = ba z2 Q n (L + 1) lq from ba_app o6] at hR
  refine x_gor (vx_runIN S (hM _ _ _ _ _ _ _ (hF.bK hl0)) cw (x_preS hG hR hW0 hS) rfl hn hsize hstack (lv_room hW) hdg hf) hS fun H1 locs1 hR1 hS1 => kk H1 locs1 ⟨hF, by rw [List.length_append, hl0, h2], ⟨?_, ?_, ?_, ?_, ?_, ?_⟩, ?_⟩ hS1
  · exact shf_off o1 p1
  · exact shf_off o2 p2
  · exact shf_off o3 p3
  · exact sha_off o4 p4
  · exact sha_off o5 p5
  · exact sha_off o6 p6
  · rw [bK_app hl0, bm_app o1, bm_app o2, bm_app o3, ba_app o4, ba_app o5, ba_app o6] at hR1
    exact hR1
/-- a constructor's call on the object that was made last: what it makes stands behind it -/
theorem b_cIN {host : String} {nL maxL nA mc ms L2 : Nat} {code : ByteArray} {y : MethodName} {st0 As : List Value} {rm : Nat × Nat} {ks0 ks2 ks' : List (Nat ⊕ (Nat × Nat))} {li2 li' : List (Nat × Nat × Int32)} {lj2 lj' : List (Nat × Nat × Int64)} {lx2 lx' : List (Nat × Nat × Option Nat)} {la2 la' : List (Nat × (Nat → Int32))} {lb2 lb' : List (Nat × (Nat → Int64))} {lq2 lq' : List (Nat × (Nat → Option Nat))}
    (S : CallFix p m c cc nL s args lw_all own) (hG : GC G s) (hB : BR G K I J X A B Q n (L + 1) ks li lj lx la lb lq H) (hS : va_S (gA G) H0 H locs) (hks : ks = ks0 ++ [.inl ci]) (ho : (∀ e ∈ li, e.2.1 < L) ∧ (∀ e ∈ lj, e.2.1 < L) ∧ (∀ e ∈ lx, e.2.1 < L) ∧ (∀ e ∈ la, e.1 < L) ∧ (∀ e ∈ lb, e.1 < L) ∧ ∀ e ∈ lq, e.1 < L)
    (hM : ∀ (K : gK) (I : gI) (J : gJ) (X : gX) (A : gI) (B : gJ) (Q : gX), fresh G K (n + L) → GMet l y code maxL none rm.1 rm.2 G (.ref (n + L) :: As) (bK K (n + L) [.inl ci]) (bm 0 I (n + L) 1 []) (bm 0 J (n + L) 1 []) (bm none X (n + L) 1 []) (ba z0 A (n + L) 1 []) (ba z1 B (n + L) 1 []) (ba z2 Q (n + L) 1 []) none (bK K (n + L) ks2) (bm 0 I (n + L) L2 li2) (bm 0 J (n + L) L2 lj2) (bm none X (n + L) L2 lx2) (ba z0 A (n + L) L2 la2) (ba z1 B (n + L) L2 lb2) (ba z2 Q (n + L) L2 lq2) mc ms)
    (cw : va_CN R s args own index y host code maxL none (ws_ y code maxL none) ({ frames := rm.1, cells := mc, slots := ms, locals := rm.2 }) mc ms nA ∧ y.name = "<init>" ∧ (Cond.instanceMethod y).before args s = true)
    (hn : As.length = nA) (hsize : ls.size = nL) (hW : (rest.map fun v => v.category).sum ≤ 8) (hdg : decode cc pc = .ok (.invokespecial index, 3)) (hf : cells + mc ≤ R.cells ∧ slots + ms ≤ R.slots) (hstack : st0 = As.reverse ++ .ref (n + L) :: rest)
    (h2 : ks2.length = L2) (ho2 : (∀ e ∈ li2, e.2.1 < L2) ∧ (∀ e ∈ lj2, e.2.1 < L2) ∧ (∀ e ∈ lx2, e.2.1 < L2) ∧ (∀ e ∈ la2, e.1 < L2) ∧ (∀ e ∈ lb2, e.1 < L2) ∧ ∀ e ∈ lq2, e.1 < L2)
    (ek : ks0 ++ ks2 = ks') (ei : shf L li2 ++ li = li') (ej : shf L lj2 ++ lj = lj') (ex : shf L lx2 ++ lx = lx') (ea : sha L la2 ++ la = la') (eb : sha L lb2 ++ lb = lb') (eq : sha L lq2 ++ lq = lq')
    (kk : ∀ (H1 : Heap) (locs1 : List Loc), BR G K I J X A B Q n (L + L2) ks' li' lj' lx' la' lb' lq' H1 → va_S (gA G) H0 H1 locs1 → W p l e R s m args below meth c H1 locs1 (cells + mc) (slots + ms) Z (F0 m (pc + 3) ls rest)) : W p l e R s m args below meth c H locs cells slots Z (F0 m pc ls st0) := by
  subst hks ek ei ej ex ea eb eq
  obtain ⟨hF, hl, -, hR⟩ := hB
  have hl0 : ks0.length = L := by
    rw [List.length_append] at hl
    exact Nat.succ.inj hl
  obtain ⟨o1, o2, o3, o4, o5, o6⟩ := ho
  obtain ⟨p1, p2, p3, p4, p5, p6⟩ := ho2
  rw [← bK_app hl0, ← show bm 0 (bm 0 I n L li) (n + L) 1 [] = bm 0 I n (L + 1) li from bm_app o1, ← show bm 0 (bm 0 J n L lj) (n + L) 1 [] = bm 0 J n (L + 1) lj from bm_app o2, ← show bm none (bm none X n L lx) (n + L) 1 [] = bm none X n (L + 1) lx from bm_app o3, ← show ba z0 (ba z0 A n L la) (n + L) 1 [] = ba z0 A n (L + 1) la from ba_app o4, ← show ba z1 (ba z1 B n L lb) (n + L) 1 [] = ba z1 B n (L + 1) lb from ba_app o5, ← show ba z2 (ba z2 Q n L lq) (n + L) 1 [] = ba z2 Q n (L + 1) lq from ba_app o6] at hR
  refine g_cIN S hG hR hS (hM _ _ _ _ _ _ _ (hF.bK hl0)) cw hn hsize hW hdg hf hstack fun H1 locs1 hR1 hS1 => kk H1 locs1 ⟨hF, by rw [List.length_append, hl0, h2], ⟨?_, ?_, ?_, ?_, ?_, ?_⟩, ?_⟩ hS1
  · exact shf_off o1 p1
  · exact shf_off o2 p2
  · exact shf_off o3 p3
  · exact sha_off o4 p4
  · exact sha_off o5 p5
  · exact sha_off o6 p6
  · rw [bK_app hl0, bm_app o1, bm_app o2, bm_app o3, ba_app o4, ba_app o5, ba_app o6] at hR1
    exact hR1
end BCX
def KS_i4 : List (Nat ⊕ (Nat × Nat)) := [.inl 3, .inr (4, 12), .inr (0, 64), .inr (1, 64)]
def LI_i4 : List (Nat × Nat × Int32) := [(314, 0, (-1 : Int32)), (313, 0, (2 : Int32)), (312, 0, (20 : Int32)), (310, 0, (9999 : Int32)), (309, 0, (5 : Int32)), (308, 0, (8 : Int32)), (307, 0, (6 : Int32)), (306, 0, (30 : Int32))]
def LJ_i4 : List (Nat × Nat × Int64) := []
def LX_i4 (n : Nat) : List (Nat × Nat × Option Nat) := [(302, 0, (some (n + 3))), (301, 0, (some (n + 2))), (300, 0, (some (n + 1)))]
def LA_i4 : List (Nat × (Nat → Int32)) := []
def LQ_i4 (G : gG) (n : Nat) : List (Nat × (Nat → Option Nat)) := []
theorem io_i4 (G : gG) (n : Nat) : (∀ e ∈ LI_i4, e.2.1 < 4) ∧ (∀ e ∈ LJ_i4, e.2.1 < 4) ∧ (∀ e ∈ LX_i4 n, e.2.1 < 4) ∧ (∀ e ∈ LA_i4, e.1 < 4) ∧ (∀ e ∈ ([] : List (Nat × (Nat → Int64))), e.1 < 4) ∧ ∀ e ∈ LQ_i4 G n, e.1 < 4 := ⟨ofl_ok rfl, ofl_ok rfl, ofl_ok rfl, ofa_ok rfl, nofun, ofa_ok rfl⟩
set_option maxHeartbeats 4000000 in
theorem i4 (l : Launch) (G : gG) (K : gK) (I : gI) (J : gJ) (X : gX) (A : gI) (B : gJ) (Q : gX) (n : Nat) (hF : fresh G K n) : GMet l yX4_init cX4_init 1 none 1 12 G [.ref n] (bK K n [.inl 3]) (bm 0 I n 1 []) (bm 0 J n 1 []) (bm none X n 1 []) (ba z0 A n 1 []) (ba z1 B n 1 []) (ba z2 Q n 1 []) none (bK K n KS_i4) (bm 0 I n 4 LI_i4) (bm 0 J n 4 LJ_i4) (bm none X n 4 (LX_i4 n)) (ba z0 A n 4 LA_i4) (ba z1 B n 4 []) (ba z2 Q n 4 (LQ_i4 G n)) 3 140 := by
  refine GMet.of (y := yX4_init) rfl (Nat.le_of_ble_eq_true rfl) rfl ?_
  intro p e s m below meth c ls hx hb hr hml hlocks hts hown hname hG hR hl
  have hown : s.vm.findClass RX4 = some m.cls := hown
  have hS : va_S (gA G) s.heap s.heap [] := va_S.rf
  have hz : G.2.2 ≤ s.heap.size := Nat.le_of_lt (Nat.lt_of_le_of_lt hF.1 (hR.lt (a := n) (by rw [show bK K n [.inl 3] n = some (.inl 3) from bK_at (n := n) (i := 0) rfl]; exact fun h => by cases h)))
  have hB0 : BR G K I J X A B Q n 1 [.inl 3] [] [] [] [] [] [] s.heap := ⟨hF, rfl, ⟨nofun, nofun, nofun, nofun, nofun, nofun⟩, hR⟩
  refine lv_aload_n hx hb dX4_init_0 rfl (lv_at hl 0 rfl) ?_
  refine b_obj hx hb hown hts (hml.trans hl.1.symm) q254 (Nat.le_of_ble_eq_true rfl) (Nat.le_of_ble_eq_true rfl) dX4_init_1 ?_
  refine lv_aload_n hx hb dX4_init_4 rfl (lv_at hl 0 rfl) ?_
  refine lv_bipush (v := 12) hx hb dX4_init_5 lb_12 ?_
  refine b_newq (t := 0) hx hb hown (hts _ q255) (hG.2 _ q256 rfl) hG hB0 hS hz rfl (by decide) (N := 12) (by decide) (Nat.le_of_ble_eq_true rfl) (Nat.le_of_ble_eq_true rfl) (Nat.le_of_ble_eq_true rfl) dX4_init_7 (fun H hB1 hS => ?_)
  refine b_putFx (i := 0) (v := (some (n + 1))) (ty := (.array (.object "PailRow$Man"))) hx hb hts hown hname hG hB1 hS gNX4_11_3 rfl rfl rfl (by decide +kernel) (Or.inr ⟨_, rfl⟩) dX4_init_10 (fun H locs hB2 hS => ?_)
  refine lv_aload_n hx hb dX4_init_13 rfl (lv_at hl 0 rfl) ?_
  refine lv_bipush (v := 64) hx hb dX4_init_14 lb_64 ?_
  refine b_newa (atype := .int) (t := 0) hx hb (hts _ q344) hG hB2 hS hz (by decide) rfl (by intro C h; cases h) rfl (by decide) (N := 64) (by decide) (Nat.le_of_ble_eq_true rfl) (Nat.le_of_ble_eq_true rfl) (Nat.le_of_ble_eq_true rfl) dX4_init_16 (fun H hB3 hS => ?_)
  refine b_putFx (i := 0) (v := (some (n + 2))) (ty := (.array .int)) hx hb hts hown hname hG hB3 hS gNX4_17_3 rfl rfl rfl (by decide +kernel) (Or.inr ⟨_, rfl⟩) dX4_init_18 (fun H locs hB4 hS => ?_)
  refine lv_aload_n hx hb dX4_init_21 rfl (lv_at hl 0 rfl) ?_
  refine lv_bipush (v := 64) hx hb dX4_init_22 lb_64 ?_
  refine b_newa (atype := .boolean) (t := 1) hx hb (hts _ q345) hG hB4 hS hz (by decide) rfl (by intro C h; cases h) rfl (by decide) (N := 64) (by decide) (Nat.le_of_ble_eq_true rfl) (Nat.le_of_ble_eq_true rfl) (Nat.le_of_ble_eq_true rfl) dX4_init_24 (fun H hB5 hS => ?_)
  refine b_putFx (i := 0) (v := (some (n + 3))) (ty := (.array .boolean)) hx hb hts hown hname hG hB5 hS gNX4_21_3 rfl rfl rfl (by decide +kernel) (Or.inr ⟨_, rfl⟩) dX4_init_26 (fun H locs hB6 hS => ?_)
  refine lv_aload_n hx hb dX4_init_29 rfl (lv_at hl 0 rfl) ?_
  refine lv_bipush (v := 30) hx hb dX4_init_30 lb_30 ?_
  refine b_puti (i := 0) hx hb hts hown hG hB6 hS gPiX4_25_3 rfl dX4_init_32 (fun H locs hB7 hS => ?_)
  refine lv_aload_n hx hb dX4_init_35 rfl (lv_at hl 0 rfl) ?_
  refine lv_bipush (v := 6) hx hb dX4_init_36 lb_6 ?_
  refine b_puti (i := 0) hx hb hts hown hG hB7 hS gPiX4_29_3 rfl dX4_init_38 (fun H locs hB8 hS => ?_)
  refine lv_aload_n hx hb dX4_init_41 rfl (lv_at hl 0 rfl) ?_
  refine lv_bipush (v := 8) hx hb dX4_init_42 lb_8 ?_
  refine b_puti (i := 0) hx hb hts hown hG hB8 hS gPiX4_32_3 rfl dX4_init_44 (fun H locs hB9 hS => ?_)
  refine lv_aload_n hx hb dX4_init_47 rfl (lv_at hl 0 rfl) ?_
  refine lv_iconst (v := 5) hx hb dX4_init_48 li_5 ?_
  refine b_puti (i := 0) hx hb hts hown hG hB9 hS gPiX4_35_3 rfl dX4_init_49 (fun H locs hB10 hS => ?_)
  refine lv_aload_n hx hb dX4_init_52 rfl (lv_at hl 0 rfl) ?_
  refine lv_sipush (v := 9999) hx hb dX4_init_53 ls_9999 ?_
  refine b_puti (i := 0) hx hb hts hown hG hB10 hS gPiX4_38_3 rfl dX4_init_56 (fun H locs hB11 hS => ?_)
  refine lv_aload_n hx hb dX4_init_59 rfl (lv_at hl 0 rfl) ?_
  refine lv_bipush (v := 20) hx hb dX4_init_60 lb_20 ?_
  refine b_puti (i := 0) hx hb hts hown hG hB11 hS gPiX4_41_3 rfl dX4_init_62 (fun H locs hB12 hS => ?_)
  refine lv_aload_n hx hb dX4_init_65 rfl (lv_at hl 0 rfl) ?_
  refine lv_iconst (v := 2) hx hb dX4_init_66 li_2 ?_
  refine b_puti (i := 0) hx hb hts hown hG hB12 hS gPiX4_44_3 rfl dX4_init_67 (fun H locs hB13 hS => ?_)
  refine lv_aload_n hx hb dX4_init_70 rfl (lv_at hl 0 rfl) ?_
  refine lv_iconst (v := -1) hx hb dX4_init_71 li_m1 ?_
  refine b_puti (i := 0) hx hb hts hown hG hB13 hS gPiX4_47_3 rfl dX4_init_72 (fun H locs hB14 hS => ?_)
  have hB : BR G K I J X A B Q n 4 KS_i4 LI_i4 LJ_i4 (LX_i4 n) LA_i4 [] (LQ_i4 G n) _ := hB14
  exact g_vret hx hb hr hlocks hG hB.2.2.2 hS rfl dX4_init_75
def KS_i5 : List (Nat ⊕ (Nat × Nat)) := [.inl 4, .inr (5, 20)]
def LI_i5 : List (Nat × Nat × Int32) := []
def LJ_i5 : List (Nat × Nat × Int64) := []
def LX_i5 (n : Nat) : List (Nat × Nat × Option Nat) := [(400, 0, (some (n + 1)))]
def LA_i5 : List (Nat × (Nat → Int32)) := []
def LQ_i5 (G : gG) (n : Nat) : List (Nat × (Nat → Option Nat)) := []
theorem io_i5 (G : gG) (n : Nat) : (∀ e ∈ LI_i5, e.2.1 < 2) ∧ (∀ e ∈ LJ_i5, e.2.1 < 2) ∧ (∀ e ∈ LX_i5 n, e.2.1 < 2) ∧ (∀ e ∈ LA_i5, e.1 < 2) ∧ (∀ e ∈ ([] : List (Nat × (Nat → Int64))), e.1 < 2) ∧ ∀ e ∈ LQ_i5 G n, e.1 < 2 := ⟨ofl_ok rfl, ofl_ok rfl, ofl_ok rfl, ofa_ok rfl, nofun, ofa_ok rfl⟩
set_option maxHeartbeats 4000000 in
theorem i5 (l : Launch) (G : gG) (K : gK) (I : gI) (J : gJ) (X : gX) (A : gI) (B : gJ) (Q : gX) (n : Nat) (hF : fresh G K n) : GMet l yX5_init cX5_init 1 none 1 12 G [.ref n] (bK K n [.inl 4]) (bm 0 I n 1 []) (bm 0 J n 1 []) (bm none X n 1 []) (ba z0 A n 1 []) (ba z1 B n 1 []) (ba z2 Q n 1 []) none (bK K n KS_i5) (bm 0 I n 2 LI_i5) (bm 0 J n 2 LJ_i5) (bm none X n 2 (LX_i5 n)) (ba z0 A n 2 LA_i5) (ba z1 B n 2 []) (ba z2 Q n 2 (LQ_i5 G n)) 1 20 := by
  refine GMet.of (y := yX5_init) rfl (Nat.le_of_ble_eq_true rfl) rfl ?_
  intro p e s m below meth c ls hx hb hr hml hlocks hts hown hname hG hR hl
  have hown : s.vm.findClass RX5 = some m.cls := hown
  have hS : va_S (gA G) s.heap s.heap [] := va_S.rf
  have hz : G.2.2 ≤ s.heap.size := Nat.le_of_lt (Nat.lt_of_le_of_lt hF.1 (hR.lt (a := n) (by rw [show bK K n [.inl 4] n = some (.inl 4) from bK_at (n := n) (i := 0) rfl]; exact fun h => by cases h)))
  have hB0 : BR G K I J X A B Q n 1 [.inl 4] [] [] [] [] [] [] s.heap := ⟨hF, rfl, ⟨nofun, nofun, nofun, nofun, nofun, nofun⟩, hR⟩
  refine lv_aload_n hx hb dX5_init_0 rfl (lv_at hl 0 rfl) ?_
  refine b_obj hx hb hown hts (hml.trans hl.1.symm) q351 (Nat.le_of_ble_eq_true rfl) (Nat.le_of_ble_eq_true rfl) dX5_init_1 ?_
  refine lv_aload_n hx hb dX5_init_4 rfl (lv_at hl 0 rfl) ?_
  refine lv_bipush (v := 20) hx hb dX5_init_5 lb_20 ?_
  refine b_newq (t := 1) hx hb hown (hts _ q352) (hG.2 _ q353 rfl) hG hB0 hS hz rfl (by decide) (N := 20) (by decide) (Nat.le_of_ble_eq_true rfl) (Nat.le_of_ble_eq_true rfl) (Nat.le_of_ble_eq_true rfl) dX5_init_7 (fun H hB1 hS => ?_)
  refine b_putFx (i := 0) (v := (some (n + 1))) (ty := (.array (.object "PailRow$Thing"))) hx hb hts hown hname hG hB1 hS gNX5_11_4 rfl rfl rfl (by decide +kernel) (Or.inr ⟨_, rfl⟩) dX5_init_10 (fun H locs hB2 hS => ?_)
  have hB : BR G K I J X A B Q n 2 KS_i5 LI_i5 LJ_i5 (LX_i5 n) LA_i5 [] (LQ_i5 G n) _ := hB2
  exact g_vret hx hb hr hlocks hG hB.2.2.2 hS rfl dX5_init_13
def KS_i3 : List (Nat ⊕ (Nat × Nat)) := [.inl 2, .inl 3, .inr (4, 12), .inr (0, 64), .inr (1, 64), .inl 4, .inr (5, 20)]
def LI_i3 : List (Nat × Nat × Int32) := [(314, 1, (-1 : Int32)), (313, 1, (2 : Int32)), (312, 1, (20 : Int32)), (310, 1, (9999 : Int32)), (309, 1, (5 : Int32)), (308, 1, (8 : Int32)), (307, 1, (6 : Int32)), (306, 1, (30 : Int32))]
def LJ_i3 : List (Nat × Nat × Int64) := []
def LX_i3 (n : Nat) : List (Nat × Nat × Option Nat) := [(201, 0, (some (n + 5))), (400, 5, (some (n + 6))), (200, 0, (some (n + 1))), (302, 1, (some (n + 4))), (301, 1, (some (n + 3))), (300, 1, (some (n + 2)))]
def LA_i3 : List (Nat × (Nat → Int32)) := []
def LQ_i3 (G : gG) (n : Nat) : List (Nat × (Nat → Option Nat)) := []
theorem io_i3 (G : gG) (n : Nat) : (∀ e ∈ LI_i3, e.2.1 < 7) ∧ (∀ e ∈ LJ_i3, e.2.1 < 7) ∧ (∀ e ∈ LX_i3 n, e.2.1 < 7) ∧ (∀ e ∈ LA_i3, e.1 < 7) ∧ (∀ e ∈ ([] : List (Nat × (Nat → Int64))), e.1 < 7) ∧ ∀ e ∈ LQ_i3 G n, e.1 < 7 := ⟨ofl_ok rfl, ofl_ok rfl, ofl_ok rfl, ofa_ok rfl, nofun, ofa_ok rfl⟩
set_option maxHeartbeats 4000000 in
theorem i3 (l : Launch) (G : gG) (K : gK) (I : gI) (J : gJ) (X : gX) (A : gI) (B : gJ) (Q : gX) (n : Nat) (hF : fresh G K n) : GMet l yX3_init cX3_init 1 none 2 32 G [.ref n] (bK K n [.inl 2]) (bm 0 I n 1 []) (bm 0 J n 1 []) (bm none X n 1 []) (ba z0 A n 1 []) (ba z1 B n 1 []) (ba z2 Q n 1 []) none (bK K n KS_i3) (bm 0 I n 7 LI_i3) (bm 0 J n 7 LJ_i3) (bm none X n 7 (LX_i3 n)) (ba z0 A n 7 LA_i3) (ba z1 B n 7 []) (ba z2 Q n 7 (LQ_i3 G n)) 6 177 := by
  refine GMet.of (y := yX3_init) rfl (Nat.le_of_ble_eq_true rfl) rfl ?_
  intro p e s m below meth c ls hx hb hr hml hlocks hts hown hname hG hR hl
  have hown : s.vm.findClass RX3 = some m.cls := hown
  have hS : va_S (gA G) s.heap s.heap [] := va_S.rf
  have hz : G.2.2 ≤ s.heap.size := Nat.le_of_lt (Nat.lt_of_le_of_lt hF.1 (hR.lt (a := n) (by rw [show bK K n [.inl 2] n = some (.inl 2) from bK_at (n := n) (i := 0) rfl]; exact fun h => by cases h)))
  have hB0 : BR G K I J X A B Q n 1 [.inl 2] [] [] [] [] [] [] s.heap := ⟨hF, rfl, ⟨nofun, nofun, nofun, nofun, nofun, nofun⟩, hR⟩
  refine lv_aload_n hx hb dX3_init_0 rfl (lv_at hl 0 rfl) ?_
  refine b_obj hx hb hown hts (hml.trans hl.1.symm) q248 (Nat.le_of_ble_eq_true rfl) (Nat.le_of_ble_eq_true rfl) dX3_init_1 ?_
  refine lv_aload_n hx hb dX3_init_4 rfl (lv_at hl 0 rfl) ?_
  refine b_new (ci := 3) (T := TX4) (N := 15) hx hb hts in_X4 tyX4 tyX4_ok hown (hts _ q249) (hts _ q250) (hts _ q108) hG hB0 hS hz rfl (by decide) hdv_3 (Nat.le_of_ble_eq_true rfl) (Nat.le_of_ble_eq_true rfl) dX3_init_5 (fun H hB1 hS => ?_)
  refine lv_dup hx hb dX3_init_8 rfl ?_
  refine b_cIN (rm := (1, 12)) (As := []) (rest := [.ref (n + 1), .ref (n + 0)]) (mc := 3) (ms := 140) (ks2 := KS_i4) (li2 := LI_i4) (lj2 := LJ_i4) (lx2 := LX_i4 (n + 1)) (la2 := LA_i4) (lb2 := []) (lq2 := LQ_i4 G (n + 1)) ⟨hx, hb, hml, hown, hts⟩ hG hB1 hS rfl hB0.2.2.1 (fun K I J X A B Q hF => i4 l G K I J X A B Q (n + 1) hF) ⟨va_cnB 0 hts (lw_meth q253) rfl rfl rfl (hG.2 _ q251 rfl) (hts _ q108) (by decide +kernel) ⟨Nat.le_of_ble_eq_true rfl, Nat.le_of_ble_eq_true rfl⟩, rfl, hts _ q252⟩ rfl hl.1 (Nat.le_of_ble_eq_true rfl) dX3_init_9 ⟨Nat.le_of_ble_eq_true rfl, Nat.le_of_ble_eq_true rfl⟩ rfl rfl (io_i4 G (n + 1)) rfl rfl rfl rfl rfl rfl rfl (fun H locs hB2 hS => ?_)
  refine b_putx (i := 0) (v := (some (n + 1))) hx hb hts hown hG hB2 hS gPxX3_10_2 rfl dX3_init_12 (fun H locs hB3 hS => ?_)
  refine lv_aload_n hx hb dX3_init_15 rfl (lv_at hl 0 rfl) ?_
  refine b_new (ci := 4) (T := TX5) (N := 2) hx hb hts in_X5 tyX5 tyX5_ok hown (hts _ q346) (hts _ q347) (hts _ q109) hG hB3 hS hz rfl (by decide) hdv_4 (Nat.le_of_ble_eq_true rfl) (Nat.le_of_ble_eq_true rfl) dX3_init_16 (fun H hB4 hS => ?_)
  refine lv_dup hx hb dX3_init_19 rfl ?_
  refine b_cIN (rm := (1, 12)) (As := []) (rest := [.ref (n + 5), .ref (n + 0)]) (mc := 1) (ms := 20) (ks2 := KS_i5) (li2 := LI_i5) (lj2 := LJ_i5) (lx2 := LX_i5 (n + 5)) (la2 := LA_i5) (lb2 := []) (lq2 := LQ_i5 G (n + 5)) ⟨hx, hb, hml, hown, hts⟩ hG hB4 hS rfl hB3.2.2.1 (fun K I J X A B Q hF => i5 l G K I J X A B Q (n + 5) hF) ⟨va_cnB 0 hts (lw_meth q350) rfl rfl rfl (hG.2 _ q348 rfl) (hts _ q109) (by decide +kernel) ⟨Nat.le_of_ble_eq_true rfl, Nat.le_of_ble_eq_true rfl⟩, rfl, hts _ q349⟩ rfl hl.1 (Nat.le_of_ble_eq_true rfl) dX3_init_20 ⟨Nat.le_of_ble_eq_true rfl, Nat.le_of_ble_eq_true rfl⟩ rfl rfl (io_i5 G (n + 5)) rfl rfl rfl rfl rfl rfl rfl (fun H locs hB5 hS => ?_)
  refine b_putx (i := 0) (v := (some (n + 5))) hx hb hts hown hG hB5 hS gPxX3_19_2 rfl dX3_init_23 (fun H locs hB6 hS => ?_)
  have hB : BR G K I J X A B Q n 7 KS_i3 LI_i3 LJ_i3 (LX_i3 n) LA_i3 [] (LQ_i3 G n) _ := hB6
  exact g_vret hx hb hr hlocks hG hB.2.2.2 hS rfl dX3_init_26
def KS_i9R : List (Nat ⊕ (Nat × Nat)) := [.inl 7, .inr (0, 12)]
def LI_i9R : List (Nat × Nat × Int32) := []
def LJ_i9R : List (Nat × Nat × Int64) := []
def LX_i9R (n : Nat) : List (Nat × Nat × Option Nat) := [(700, 0, (some (n + 1)))]
def LA_i9R : List (Nat × (Nat → Int32)) := []
def LQ_i9R (G : gG) (n : Nat) : List (Nat × (Nat → Option Nat)) := []
theorem io_i9R (G : gG) (n : Nat) : (∀ e ∈ LI_i9R, e.2.1 < 2) ∧ (∀ e ∈ LJ_i9R, e.2.1 < 2) ∧ (∀ e ∈ LX_i9R n, e.2.1 < 2) ∧ (∀ e ∈ LA_i9R, e.1 < 2) ∧ (∀ e ∈ ([] : List (Nat × (Nat → Int64))), e.1 < 2) ∧ ∀ e ∈ LQ_i9R G n, e.1 < 2 := ⟨ofl_ok rfl, ofl_ok rfl, ofl_ok rfl, ofa_ok rfl, nofun, ofa_ok rfl⟩
set_option maxHeartbeats 4000000 in
theorem i9R (l : Launch) (G : gG) (K : gK) (I : gI) (J : gJ) (X : gX) (A : gI) (B : gJ) (Q : gX) (n : Nat) (hF : fresh G K n) : GMet l yX9_init cX9_init 1 none 1 12 G [.ref n] (bK K n [.inl 7]) (bm 0 I n 1 []) (bm 0 J n 1 []) (bm none X n 1 []) (ba z0 A n 1 []) (ba z1 B n 1 []) (ba z2 Q n 1 []) none (bK K n KS_i9R) (bm 0 I n 2 LI_i9R) (bm 0 J n 2 LJ_i9R) (bm none X n 2 (LX_i9R n)) (ba z0 A n 2 LA_i9R) (ba z1 B n 2 []) (ba z2 Q n 2 (LQ_i9R G n)) 1 12 := by
  refine GMet.of (y := yX9_init) rfl (Nat.le_of_ble_eq_true rfl) rfl ?_
  intro p e s m below meth c ls hx hb hr hml hlocks hts hown hname hG hR hl
  have hown : s.vm.findClass RX9 = some m.cls := hown
  have hS : va_S (gA G) s.heap s.heap [] := va_S.rf
  have hz : G.2.2 ≤ s.heap.size := Nat.le_of_lt (Nat.lt_of_le_of_lt hF.1 (hR.lt (a := n) (by rw [show bK K n [.inl 7] n = some (.inl 7) from bK_at (n := n) (i := 0) rfl]; exact fun h => by cases h)))
  have hB0 : BR G K I J X A B Q n 1 [.inl 7] [] [] [] [] [] [] s.heap := ⟨hF, rfl, ⟨nofun, nofun, nofun, nofun, nofun, nofun⟩, hR⟩
  refine lv_aload_n hx hb dX9_init_0 rfl (lv_at hl 0 rfl) ?_
  refine b_obj hx hb hown hts (hml.trans hl.1.symm) q465 (Nat.le_of_ble_eq_true rfl) (Nat.le_of_ble_eq_true rfl) dX9_init_1 ?_
  refine lv_aload_n hx hb dX9_init_4 rfl (lv_at hl 0 rfl) ?_
  refine lv_bipush (v := 12) hx hb dX9_init_5 lb_12 ?_
  refine b_newa (atype := .int) (t := 0) hx hb (hts _ q344) hG hB0 hS hz (by decide) rfl (by intro C h; cases h) rfl (by decide) (N := 12) (by decide) (Nat.le_of_ble_eq_true rfl) (Nat.le_of_ble_eq_true rfl) (Nat.le_of_ble_eq_true rfl) dX9_init_7 (fun H hB1 hS => ?_)
  refine b_putFx (i := 0) (v := (some (n + 1))) (ty := (.array .int)) hx hb hts hown hname hG hB1 hS gNX9_9_7 rfl rfl rfl (by decide +kernel) (Or.inr ⟨_, rfl⟩) dX9_init_9 (fun H locs hB2 hS => ?_)
  have hB : BR G K I J X A B Q n 2 KS_i9R LI_i9R LJ_i9R (LX_i9R n) LA_i9R [] (LQ_i9R G n) _ := hB2
  exact g_vret hx hb hr hlocks hG hB.2.2.2 hS rfl dX9_init_12
def KS_i9N : List (Nat ⊕ (Nat × Nat)) := [.inl 8, .inr (0, 12)]
def LI_i9N : List (Nat × Nat × Int32) := []
def LJ_i9N : List (Nat × Nat × Int64) := []
def LX_i9N (n : Nat) : List (Nat × Nat × Option Nat) := [(800, 0, (some (n + 1)))]
def LA_i9N : List (Nat × (Nat → Int32)) := []
def LQ_i9N (G : gG) (n : Nat) : List (Nat × (Nat → Option Nat)) := []
theorem io_i9N (G : gG) (n : Nat) : (∀ e ∈ LI_i9N, e.2.1 < 2) ∧ (∀ e ∈ LJ_i9N, e.2.1 < 2) ∧ (∀ e ∈ LX_i9N n, e.2.1 < 2) ∧ (∀ e ∈ LA_i9N, e.1 < 2) ∧ (∀ e ∈ ([] : List (Nat × (Nat → Int64))), e.1 < 2) ∧ ∀ e ∈ LQ_i9N G n, e.1 < 2 := ⟨ofl_ok rfl, ofl_ok rfl, ofl_ok rfl, ofa_ok rfl, nofun, ofa_ok rfl⟩
set_option maxHeartbeats 4000000 in
theorem i9N (l : Launch) (G : gG) (K : gK) (I : gI) (J : gJ) (X : gX) (A : gI) (B : gJ) (Q : gX) (n : Nat) (hF : fresh G K n) : GMet l yX9_init cX9_init 1 none 1 12 G [.ref n] (bK K n [.inl 8]) (bm 0 I n 1 []) (bm 0 J n 1 []) (bm none X n 1 []) (ba z0 A n 1 []) (ba z1 B n 1 []) (ba z2 Q n 1 []) none (bK K n KS_i9N) (bm 0 I n 2 LI_i9N) (bm 0 J n 2 LJ_i9N) (bm none X n 2 (LX_i9N n)) (ba z0 A n 2 LA_i9N) (ba z1 B n 2 []) (ba z2 Q n 2 (LQ_i9N G n)) 1 12 := by
  refine GMet.of (y := yX9_init) rfl (Nat.le_of_ble_eq_true rfl) rfl ?_
  intro p e s m below meth c ls hx hb hr hml hlocks hts hown hname hG hR hl
  have hown : s.vm.findClass RX9 = some m.cls := hown
  have hS : va_S (gA G) s.heap s.heap [] := va_S.rf
  have hz : G.2.2 ≤ s.heap.size := Nat.le_of_lt (Nat.lt_of_le_of_lt hF.1 (hR.lt (a := n) (by rw [show bK K n [.inl 8] n = some (.inl 8) from bK_at (n := n) (i := 0) rfl]; exact fun h => by cases h)))
  have hB0 : BR G K I J X A B Q n 1 [.inl 8] [] [] [] [] [] [] s.heap := ⟨hF, rfl, ⟨nofun, nofun, nofun, nofun, nofun, nofun⟩, hR⟩
  refine lv_aload_n hx hb dX9_init_0 rfl (lv_at hl 0 rfl) ?_
  refine b_obj hx hb hown hts (hml.trans hl.1.symm) q465 (Nat.le_of_ble_eq_true rfl) (Nat.le_of_ble_eq_true rfl) dX9_init_1 ?_
  refine lv_aload_n hx hb dX9_init_4 rfl (lv_at hl 0 rfl) ?_
  refine lv_bipush (v := 12) hx hb dX9_init_5 lb_12 ?_
  refine b_newa (atype := .int) (t := 0) hx hb (hts _ q344) hG hB0 hS hz (by decide) rfl (by intro C h; cases h) rfl (by decide) (N := 12) (by decide) (Nat.le_of_ble_eq_true rfl) (Nat.le_of_ble_eq_true rfl) (Nat.le_of_ble_eq_true rfl) dX9_init_7 (fun H hB1 hS => ?_)
  refine b_putFx (i := 0) (v := (some (n + 1))) (ty := (.array .int)) hx hb hts hown hname hG hB1 hS gNX9_9_8 rfl rfl rfl (by decide +kernel) (Or.inr ⟨_, rfl⟩) dX9_init_9 (fun H locs hB2 hS => ?_)
  have hB : BR G K I J X A B Q n 2 KS_i9N LI_i9N LJ_i9N (LX_i9N n) LA_i9N [] (LQ_i9N G n) _ := hB2
  exact g_vret hx hb hr hlocks hG hB.2.2.2 hS rfl dX9_init_12
def KS_i10 : List (Nat ⊕ (Nat × Nat)) := [.inl 7, .inr (0, 12), .inr (0, 12), .inr (0, 12), .inr (0, 12), .inr (0, 12), .inr (0, 12), .inr (0, 12), .inr (9, 12), .inr (0, 30), .inr (0, 30), .inr (0, 30), .inr (0, 30), .inr (0, 30), .inr (0, 30), .inr (0, 30), .inr (0, 30), .inr (0, 30), .inr (0, 30), .inr (0, 30), .inr (0, 30), .inr (0, 30)]
def LI_i10 : List (Nat × Nat × Int32) := []
def LJ_i10 : List (Nat × Nat × Int64) := []
def LX_i10 (n : Nat) : List (Nat × Nat × Option Nat) := [(713, 0, (some (n + 21))), (712, 0, (some (n + 8))), (711, 0, (some (n + 7))), (710, 0, (some (n + 6))), (709, 0, (some (n + 5))), (708, 0, (some (n + 4))), (707, 0, (some (n + 3))), (706, 0, (some (n + 2))), (700, 0, (some (n + 1)))]
def LA_i10 : List (Nat × (Nat → Int32)) := []
def LQ_i10 (G : gG) (n : Nat) : List (Nat × (Nat → Option Nat)) := [(8, gridq (n + 9))]
theorem io_i10 (G : gG) (n : Nat) : (∀ e ∈ LI_i10, e.2.1 < 22) ∧ (∀ e ∈ LJ_i10, e.2.1 < 22) ∧ (∀ e ∈ LX_i10 n, e.2.1 < 22) ∧ (∀ e ∈ LA_i10, e.1 < 22) ∧ (∀ e ∈ ([] : List (Nat × (Nat → Int64))), e.1 < 22) ∧ ∀ e ∈ LQ_i10 G n, e.1 < 22 := ⟨ofl_ok rfl, ofl_ok rfl, ofl_ok rfl, ofa_ok rfl, nofun, ofa_ok rfl⟩
set_option maxHeartbeats 4000000 in
theorem i10 (l : Launch) (G : gG) (K : gK) (I : gI) (J : gJ) (X : gX) (A : gI) (B : gJ) (Q : gX) (n : Nat) (hF : fresh G K n) : GMet l yX10_init cX10_init 1 none 2 32 G [.ref n] (bK K n [.inl 7]) (bm 0 I n 1 []) (bm 0 J n 1 []) (bm none X n 1 []) (ba z0 A n 1 []) (ba z1 B n 1 []) (ba z2 Q n 1 []) none (bK K n KS_i10) (bm 0 I n 22 LI_i10) (bm 0 J n 22 LJ_i10) (bm none X n 22 (LX_i10 n)) (ba z0 A n 22 LA_i10) (ba z1 B n 22 []) (ba z2 Q n 22 (LQ_i10 G n)) 21 486 := by
  refine GMet.of (y := yX10_init) rfl (Nat.le_of_ble_eq_true rfl) rfl ?_
  intro p e s m below meth c ls hx hb hr hml hlocks hts hown hname hG hR hl
  have hown : s.vm.findClass RX10 = some m.cls := hown
  have hS : va_S (gA G) s.heap s.heap [] := va_S.rf
  have hz : G.2.2 ≤ s.heap.size := Nat.le_of_lt (Nat.lt_of_le_of_lt hF.1 (hR.lt (a := n) (by rw [show bK K n [.inl 7] n = some (.inl 7) from bK_at (n := n) (i := 0) rfl]; exact fun h => by cases h)))
  have hB0 : BR G K I J X A B Q n 1 [.inl 7] [] [] [] [] [] [] s.heap := ⟨hF, rfl, ⟨nofun, nofun, nofun, nofun, nofun, nofun⟩, hR⟩
  refine lv_aload_n hx hb dX10_init_0 rfl (lv_at hl 0 rfl) ?_
  refine g_cIN (rm := (1, 12)) (As := []) (rest := []) (b := n + 0) (mc := 1) (ms := 12) ⟨hx, hb, hml, hown, hts⟩ hG hB0.2.2.2 hS (i9R l G K I J X A B Q n hF) ⟨va_cnB 0 hts (lw_meth q464) rfl rfl rfl (hG.2 _ q462 rfl) (hts _ q113) (by decide +kernel) ⟨Nat.le_of_ble_eq_true rfl, Nat.le_of_ble_eq_true rfl⟩, rfl, hts _ q463⟩ rfl hl.1 (Nat.le_of_ble_eq_true rfl) dX10_init_1 ⟨Nat.le_of_ble_eq_true rfl, Nat.le_of_ble_eq_true rfl⟩ rfl (fun H locs hR hS => ?_)
  have hB1 : BR G K I J X A B Q n 2 KS_i9R LI_i9R LJ_i9R (LX_i9R n) LA_i9R [] (LQ_i9R G n) H := ⟨hF, rfl, io_i9R G n, hR⟩
  refine lv_aload_n hx hb dX10_init_4 rfl (lv_at hl 0 rfl) ?_
  refine lv_bipush (v := 12) hx hb dX10_init_5 lb_12 ?_
  refine b_newa (atype := .int) (t := 0) hx hb (hts _ q344) hG hB1 hS hz (by decide) rfl (by intro C h; cases h) rfl (by decide) (N := 12) (by decide) (Nat.le_of_ble_eq_true rfl) (Nat.le_of_ble_eq_true rfl) (Nat.le_of_ble_eq_true rfl) dX10_init_7 (fun H hB2 hS => ?_)
  refine b_putFx (i := 0) (v := (some (n + 2))) (ty := (.array .int)) hx hb hts hown hname hG hB2 hS gNX10_9_7 rfl rfl rfl (by decide +kernel) (Or.inr ⟨_, rfl⟩) dX10_init_9 (fun H locs hB3 hS => ?_)
  refine lv_aload_n hx hb dX10_init_12 rfl (lv_at hl 0 rfl) ?_
  refine lv_bipush (v := 12) hx hb dX10_init_13 lb_12 ?_
  refine b_newa (atype := .int) (t := 0) hx hb (hts _ q344) hG hB3 hS hz (by decide) rfl (by intro C h; cases h) rfl (by decide) (N := 12) (by decide) (Nat.le_of_ble_eq_true rfl) (Nat.le_of_ble_eq_true rfl) (Nat.le_of_ble_eq_true rfl) dX10_init_15 (fun H hB4 hS => ?_)
  refine b_putFx (i := 0) (v := (some (n + 3))) (ty := (.array .int)) hx hb hts hown hname hG hB4 hS gNX10_15_7 rfl rfl rfl (by decide +kernel) (Or.inr ⟨_, rfl⟩) dX10_init_17 (fun H locs hB5 hS => ?_)
  refine lv_aload_n hx hb dX10_init_20 rfl (lv_at hl 0 rfl) ?_
  refine lv_bipush (v := 12) hx hb dX10_init_21 lb_12 ?_
  refine b_newa (atype := .int) (t := 0) hx hb (hts _ q344) hG hB5 hS hz (by decide) rfl (by intro C h; cases h) rfl (by decide) (N := 12) (by decide) (Nat.le_of_ble_eq_true rfl) (Nat.le_of_ble_eq_true rfl) (Nat.le_of_ble_eq_true rfl) dX10_init_23 (fun H hB6 hS => ?_)
  refine b_putFx (i := 0) (v := (some (n + 4))) (ty := (.array .int)) hx hb hts hown hname hG hB6 hS gNX10_18_7 rfl rfl rfl (by decide +kernel) (Or.inr ⟨_, rfl⟩) dX10_init_25 (fun H locs hB7 hS => ?_)
  refine lv_aload_n hx hb dX10_init_28 rfl (lv_at hl 0 rfl) ?_
  refine lv_bipush (v := 12) hx hb dX10_init_29 lb_12 ?_
  refine b_newa (atype := .int) (t := 0) hx hb (hts _ q344) hG hB7 hS hz (by decide) rfl (by intro C h; cases h) rfl (by decide) (N := 12) (by decide) (Nat.le_of_ble_eq_true rfl) (Nat.le_of_ble_eq_true rfl) (Nat.le_of_ble_eq_true rfl) dX10_init_31 (fun H hB8 hS => ?_)
  refine b_putFx (i := 0) (v := (some (n + 5))) (ty := (.array .int)) hx hb hts hown hname hG hB8 hS gNX10_21_7 rfl rfl rfl (by decide +kernel) (Or.inr ⟨_, rfl⟩) dX10_init_33 (fun H locs hB9 hS => ?_)
  refine lv_aload_n hx hb dX10_init_36 rfl (lv_at hl 0 rfl) ?_
  refine lv_bipush (v := 12) hx hb dX10_init_37 lb_12 ?_
  refine b_newa (atype := .int) (t := 0) hx hb (hts _ q344) hG hB9 hS hz (by decide) rfl (by intro C h; cases h) rfl (by decide) (N := 12) (by decide) (Nat.le_of_ble_eq_true rfl) (Nat.le_of_ble_eq_true rfl) (Nat.le_of_ble_eq_true rfl) dX10_init_39 (fun H hB10 hS => ?_)
  refine b_putFx (i := 0) (v := (some (n + 6))) (ty := (.array .int)) hx hb hts hown hname hG hB10 hS gNX10_24_7 rfl rfl rfl (by decide +kernel) (Or.inr ⟨_, rfl⟩) dX10_init_41 (fun H locs hB11 hS => ?_)
  refine lv_aload_n hx hb dX10_init_44 rfl (lv_at hl 0 rfl) ?_
  refine lv_bipush (v := 12) hx hb dX10_init_45 lb_12 ?_
  refine b_newa (atype := .int) (t := 0) hx hb (hts _ q344) hG hB11 hS hz (by decide) rfl (by intro C h; cases h) rfl (by decide) (N := 12) (by decide) (Nat.le_of_ble_eq_true rfl) (Nat.le_of_ble_eq_true rfl) (Nat.le_of_ble_eq_true rfl) dX10_init_47 (fun H hB12 hS => ?_)
  refine b_putFx (i := 0) (v := (some (n + 7))) (ty := (.array .int)) hx hb hts hown hname hG hB12 hS gNX10_27_7 rfl rfl rfl (by decide +kernel) (Or.inr ⟨_, rfl⟩) dX10_init_49 (fun H locs hB13 hS => ?_)
  refine lv_aload_n hx hb dX10_init_52 rfl (lv_at hl 0 rfl) ?_
  refine lv_bipush (v := 12) hx hb dX10_init_53 lb_12 ?_
  refine lv_bipush (v := 30) hx hb dX10_init_55 lb_30 ?_
  refine b_mna hx hb hown (hts _ q466) (hG.2 _ q467 rfl) (hts _ q344) hG hB13 hS hz (Nat.le_of_ble_eq_true rfl) (Nat.le_of_ble_eq_true rfl) dX10_init_57 (fun H hB14 hS => ?_)
  refine b_putFx (i := 0) (v := (some (n + 8))) (ty := (.array (.array .int))) hx hb hts hown hname hG hB14 hS gNX10_32_7 rfl rfl rfl (by decide +kernel) (Or.inr ⟨_, rfl⟩) dX10_init_61 (fun H locs hB15 hS => ?_)
  refine lv_aload_n hx hb dX10_init_64 rfl (lv_at hl 0 rfl) ?_
  refine lv_bipush (v := 30) hx hb dX10_init_65 lb_30 ?_
  refine b_newa (atype := .int) (t := 0) hx hb (hts _ q344) hG hB15 hS hz (by decide) rfl (by intro C h; cases h) rfl (by decide) (N := 30) (by decide) (Nat.le_of_ble_eq_true rfl) (Nat.le_of_ble_eq_true rfl) (Nat.le_of_ble_eq_true rfl) dX10_init_67 (fun H hB16 hS => ?_)
  refine b_putFx (i := 0) (v := (some (n + 21))) (ty := (.array .int)) hx hb hts hown hname hG hB16 hS gNX10_35_7 rfl rfl rfl (by decide +kernel) (Or.inr ⟨_, rfl⟩) dX10_init_69 (fun H locs hB17 hS => ?_)
  have hB : BR G K I J X A B Q n 22 KS_i10 LI_i10 LJ_i10 (LX_i10 n) LA_i10 [] (LQ_i10 G n) _ := hB17
  exact g_vret hx hb hr hlocks hG hB.2.2.2 hS rfl dX10_init_72
def KS_i11 : List (Nat ⊕ (Nat × Nat)) := [.inl 8, .inr (0, 12), .inr (0, 12), .inr (0, 12), .inr (0, 12)]
def LI_i11 : List (Nat × Nat × Int32) := []
def LJ_i11 : List (Nat × Nat × Int64) := []
def LX_i11 (n : Nat) : List (Nat × Nat × Option Nat) := [(808, 0, (some (n + 4))), (807, 0, (some (n + 3))), (806, 0, (some (n + 2))), (800, 0, (some (n + 1)))]
def LA_i11 : List (Nat × (Nat → Int32)) := []
def LQ_i11 (G : gG) (n : Nat) : List (Nat × (Nat → Option Nat)) := []
theorem io_i11 (G : gG) (n : Nat) : (∀ e ∈ LI_i11, e.2.1 < 5) ∧ (∀ e ∈ LJ_i11, e.2.1 < 5) ∧ (∀ e ∈ LX_i11 n, e.2.1 < 5) ∧ (∀ e ∈ LA_i11, e.1 < 5) ∧ (∀ e ∈ ([] : List (Nat × (Nat → Int64))), e.1 < 5) ∧ ∀ e ∈ LQ_i11 G n, e.1 < 5 := ⟨ofl_ok rfl, ofl_ok rfl, ofl_ok rfl, ofa_ok rfl, nofun, ofa_ok rfl⟩
set_option maxHeartbeats 4000000 in
theorem i11 (l : Launch) (G : gG) (K : gK) (I : gI) (J : gJ) (X : gX) (A : gI) (B : gJ) (Q : gX) (n : Nat) (hF : fresh G K n) : GMet l yX11_init cX11_init 1 none 2 32 G [.ref n] (bK K n [.inl 8]) (bm 0 I n 1 []) (bm 0 J n 1 []) (bm none X n 1 []) (ba z0 A n 1 []) (ba z1 B n 1 []) (ba z2 Q n 1 []) none (bK K n KS_i11) (bm 0 I n 5 LI_i11) (bm 0 J n 5 LJ_i11) (bm none X n 5 (LX_i11 n)) (ba z0 A n 5 LA_i11) (ba z1 B n 5 []) (ba z2 Q n 5 (LQ_i11 G n)) 4 48 := by
  refine GMet.of (y := yX11_init) rfl (Nat.le_of_ble_eq_true rfl) rfl ?_
  intro p e s m below meth c ls hx hb hr hml hlocks hts hown hname hG hR hl
  have hown : s.vm.findClass RX11 = some m.cls := hown
  have hS : va_S (gA G) s.heap s.heap [] := va_S.rf
  have hz : G.2.2 ≤ s.heap.size := Nat.le_of_lt (Nat.lt_of_le_of_lt hF.1 (hR.lt (a := n) (by rw [show bK K n [.inl 8] n = some (.inl 8) from bK_at (n := n) (i := 0) rfl]; exact fun h => by cases h)))
  have hB0 : BR G K I J X A B Q n 1 [.inl 8] [] [] [] [] [] [] s.heap := ⟨hF, rfl, ⟨nofun, nofun, nofun, nofun, nofun, nofun⟩, hR⟩
  refine lv_aload_n hx hb dX11_init_0 rfl (lv_at hl 0 rfl) ?_
  refine g_cIN (rm := (1, 12)) (As := []) (rest := []) (b := n + 0) (mc := 1) (ms := 12) ⟨hx, hb, hml, hown, hts⟩ hG hB0.2.2.2 hS (i9N l G K I J X A B Q n hF) ⟨va_cnB 0 hts (lw_meth q464) rfl rfl rfl (hG.2 _ q557 rfl) (hts _ q113) (by decide +kernel) ⟨Nat.le_of_ble_eq_true rfl, Nat.le_of_ble_eq_true rfl⟩, rfl, hts _ q463⟩ rfl hl.1 (Nat.le_of_ble_eq_true rfl) dX11_init_1 ⟨Nat.le_of_ble_eq_true rfl, Nat.le_of_ble_eq_true rfl⟩ rfl (fun H locs hR hS => ?_)
  have hB1 : BR G K I J X A B Q n 2 KS_i9N LI_i9N LJ_i9N (LX_i9N n) LA_i9N [] (LQ_i9N G n) H := ⟨hF, rfl, io_i9N G n, hR⟩
  refine lv_aload_n hx hb dX11_init_4 rfl (lv_at hl 0 rfl) ?_
  refine lv_bipush (v := 12) hx hb dX11_init_5 lb_12 ?_
  refine b_newa (atype := .int) (t := 0) hx hb (hts _ q344) hG hB1 hS hz (by decide) rfl (by intro C h; cases h) rfl (by decide) (N := 12) (by decide) (Nat.le_of_ble_eq_true rfl) (Nat.le_of_ble_eq_true rfl) (Nat.le_of_ble_eq_true rfl) dX11_init_7 (fun H hB2 hS => ?_)
  refine b_putFx (i := 0) (v := (some (n + 2))) (ty := (.array .int)) hx hb hts hown hname hG hB2 hS gNX11_9_8 rfl rfl rfl (by decide +kernel) (Or.inr ⟨_, rfl⟩) dX11_init_9 (fun H locs hB3 hS => ?_)
  refine lv_aload_n hx hb dX11_init_12 rfl (lv_at hl 0 rfl) ?_
  refine lv_bipush (v := 12) hx hb dX11_init_13 lb_12 ?_
  refine b_newa (atype := .int) (t := 0) hx hb (hts _ q344) hG hB3 hS hz (by decide) rfl (by intro C h; cases h) rfl (by decide) (N := 12) (by decide) (Nat.le_of_ble_eq_true rfl) (Nat.le_of_ble_eq_true rfl) (Nat.le_of_ble_eq_true rfl) dX11_init_15 (fun H hB4 hS => ?_)
  refine b_putFx (i := 0) (v := (some (n + 3))) (ty := (.array .int)) hx hb hts hown hname hG hB4 hS gNX11_15_8 rfl rfl rfl (by decide +kernel) (Or.inr ⟨_, rfl⟩) dX11_init_17 (fun H locs hB5 hS => ?_)
  refine lv_aload_n hx hb dX11_init_20 rfl (lv_at hl 0 rfl) ?_
  refine lv_bipush (v := 12) hx hb dX11_init_21 lb_12 ?_
  refine b_newa (atype := .int) (t := 0) hx hb (hts _ q344) hG hB5 hS hz (by decide) rfl (by intro C h; cases h) rfl (by decide) (N := 12) (by decide) (Nat.le_of_ble_eq_true rfl) (Nat.le_of_ble_eq_true rfl) (Nat.le_of_ble_eq_true rfl) dX11_init_23 (fun H hB6 hS => ?_)
  refine b_putFx (i := 0) (v := (some (n + 4))) (ty := (.array .int)) hx hb hts hown hname hG hB6 hS gNX11_18_8 rfl rfl rfl (by decide +kernel) (Or.inr ⟨_, rfl⟩) dX11_init_25 (fun H locs hB7 hS => ?_)
  have hB : BR G K I J X A B Q n 5 KS_i11 LI_i11 LJ_i11 (LX_i11 n) LA_i11 [] (LQ_i11 G n) _ := hB7
  exact g_vret hx hb hr hlocks hG hB.2.2.2 hS rfl dX11_init_28
def KS_i12 : List (Nat ⊕ (Nat × Nat)) := [.inl 9, .inr (0, 64), .inr (0, 64), .inr (0, 64), .inr (1, 64)]
def LI_i12 : List (Nat × Nat × Int32) := []
def LJ_i12 : List (Nat × Nat × Int64) := []
def LX_i12 (n : Nat) : List (Nat × Nat × Option Nat) := [(903, 0, (some (n + 4))), (902, 0, (some (n + 3))), (901, 0, (some (n + 2))), (900, 0, (some (n + 1)))]
def LA_i12 : List (Nat × (Nat → Int32)) := []
def LQ_i12 (G : gG) (n : Nat) : List (Nat × (Nat → Option Nat)) := []
theorem io_i12 (G : gG) (n : Nat) : (∀ e ∈ LI_i12, e.2.1 < 5) ∧ (∀ e ∈ LJ_i12, e.2.1 < 5) ∧ (∀ e ∈ LX_i12 n, e.2.1 < 5) ∧ (∀ e ∈ LA_i12, e.1 < 5) ∧ (∀ e ∈ ([] : List (Nat × (Nat → Int64))), e.1 < 5) ∧ ∀ e ∈ LQ_i12 G n, e.1 < 5 := ⟨ofl_ok rfl, ofl_ok rfl, ofl_ok rfl, ofa_ok rfl, nofun, ofa_ok rfl⟩
set_option maxHeartbeats 4000000 in
theorem i12 (l : Launch) (G : gG) (K : gK) (I : gI) (J : gJ) (X : gX) (A : gI) (B : gJ) (Q : gX) (n : Nat) (hF : fresh G K n) : GMet l yX12_init cX12_init 1 none 1 12 G [.ref n] (bK K n [.inl 9]) (bm 0 I n 1 []) (bm 0 J n 1 []) (bm none X n 1 []) (ba z0 A n 1 []) (ba z1 B n 1 []) (ba z2 Q n 1 []) none (bK K n KS_i12) (bm 0 I n 5 LI_i12) (bm 0 J n 5 LJ_i12) (bm none X n 5 (LX_i12 n)) (ba z0 A n 5 LA_i12) (ba z1 B n 5 []) (ba z2 Q n 5 (LQ_i12 G n)) 4 256 := by
  refine GMet.of (y := yX12_init) rfl (Nat.le_of_ble_eq_true rfl) rfl ?_
  intro p e s m below meth c ls hx hb hr hml hlocks hts hown hname hG hR hl
  have hown : s.vm.findClass RX12 = some m.cls := hown
  have hS : va_S (gA G) s.heap s.heap [] := va_S.rf
  have hz : G.2.2 ≤ s.heap.size := Nat.le_of_lt (Nat.lt_of_le_of_lt hF.1 (hR.lt (a := n) (by rw [show bK K n [.inl 9] n = some (.inl 9) from bK_at (n := n) (i := 0) rfl]; exact fun h => by cases h)))
  have hB0 : BR G K I J X A B Q n 1 [.inl 9] [] [] [] [] [] [] s.heap := ⟨hF, rfl, ⟨nofun, nofun, nofun, nofun, nofun, nofun⟩, hR⟩
  refine lv_aload_n hx hb dX12_init_0 rfl (lv_at hl 0 rfl) ?_
  refine b_obj hx hb hown hts (hml.trans hl.1.symm) q582 (Nat.le_of_ble_eq_true rfl) (Nat.le_of_ble_eq_true rfl) dX12_init_1 ?_
  refine lv_aload_n hx hb dX12_init_4 rfl (lv_at hl 0 rfl) ?_
  refine lv_bipush (v := 64) hx hb dX12_init_5 lb_64 ?_
  refine b_newa (atype := .int) (t := 0) hx hb (hts _ q344) hG hB0 hS hz (by decide) rfl (by intro C h; cases h) rfl (by decide) (N := 64) (by decide) (Nat.le_of_ble_eq_true rfl) (Nat.le_of_ble_eq_true rfl) (Nat.le_of_ble_eq_true rfl) dX12_init_7 (fun H hB1 hS => ?_)
  refine b_putFx (i := 0) (v := (some (n + 1))) (ty := (.array .int)) hx hb hts hown hname hG hB1 hS gNX12_9_9 rfl rfl rfl (by decide +kernel) (Or.inr ⟨_, rfl⟩) dX12_init_9 (fun H locs hB2 hS => ?_)
  refine lv_aload_n hx hb dX12_init_12 rfl (lv_at hl 0 rfl) ?_
  refine lv_bipush (v := 64) hx hb dX12_init_13 lb_64 ?_
  refine b_newa (atype := .int) (t := 0) hx hb (hts _ q344) hG hB2 hS hz (by decide) rfl (by intro C h; cases h) rfl (by decide) (N := 64) (by decide) (Nat.le_of_ble_eq_true rfl) (Nat.le_of_ble_eq_true rfl) (Nat.le_of_ble_eq_true rfl) dX12_init_15 (fun H hB3 hS => ?_)
  refine b_putFx (i := 0) (v := (some (n + 2))) (ty := (.array .int)) hx hb hts hown hname hG hB3 hS gNX12_15_9 rfl rfl rfl (by decide +kernel) (Or.inr ⟨_, rfl⟩) dX12_init_17 (fun H locs hB4 hS => ?_)
  refine lv_aload_n hx hb dX12_init_20 rfl (lv_at hl 0 rfl) ?_
  refine lv_bipush (v := 64) hx hb dX12_init_21 lb_64 ?_
  refine b_newa (atype := .int) (t := 0) hx hb (hts _ q344) hG hB4 hS hz (by decide) rfl (by intro C h; cases h) rfl (by decide) (N := 64) (by decide) (Nat.le_of_ble_eq_true rfl) (Nat.le_of_ble_eq_true rfl) (Nat.le_of_ble_eq_true rfl) dX12_init_23 (fun H hB5 hS => ?_)
  refine b_putFx (i := 0) (v := (some (n + 3))) (ty := (.array .int)) hx hb hts hown hname hG hB5 hS gNX12_18_9 rfl rfl rfl (by decide +kernel) (Or.inr ⟨_, rfl⟩) dX12_init_25 (fun H locs hB6 hS => ?_)
  refine lv_aload_n hx hb dX12_init_28 rfl (lv_at hl 0 rfl) ?_
  refine lv_bipush (v := 64) hx hb dX12_init_29 lb_64 ?_
  refine b_newa (atype := .boolean) (t := 1) hx hb (hts _ q345) hG hB6 hS hz (by decide) rfl (by intro C h; cases h) rfl (by decide) (N := 64) (by decide) (Nat.le_of_ble_eq_true rfl) (Nat.le_of_ble_eq_true rfl) (Nat.le_of_ble_eq_true rfl) dX12_init_31 (fun H hB7 hS => ?_)
  refine b_putFx (i := 0) (v := (some (n + 4))) (ty := (.array .boolean)) hx hb hts hown hname hG hB7 hS gNX12_21_9 rfl rfl rfl (by decide +kernel) (Or.inr ⟨_, rfl⟩) dX12_init_33 (fun H locs hB8 hS => ?_)
  have hB : BR G K I J X A B Q n 5 KS_i12 LI_i12 LJ_i12 (LX_i12 n) LA_i12 [] (LQ_i12 G n) _ := hB8
  exact g_vret hx hb hr hlocks hG hB.2.2.2 hS rfl dX12_init_36
def KS_i14 : List (Nat ⊕ (Nat × Nat)) := [.inl 11, .inr (0, 740), .inr (0, 800), .inr (0, 200), .inr (0, 320), .inr (0, 1600), .inr (3, 12), .inr (3, 12), .inr (3, 24), .inr (1, 2), .inr (0, 12), .inr (0, 12), .inr (0, 12), .inr (0, 12), .inr (0, 360), .inr (0, 12), .inr (0, 12), .inr (0, 30), .inr (0, 12), .inr (0, 6), .inr (0, 12), .inr (0, 7), .inr (0, 7), .inr (0, 7), .inr (0, 7), .inr (0, 12), .inr (0, 12), .inr (0, 12), .inr (0, 12), .inr (0, 6), .inr (0, 6), .inr (0, 6), .inr (0, 64), .inr (0, 64), .inr (0, 64), .inr (0, 64), .inr (0, 3904), .inr (0, 3904), .inr (0, 192), .inr (0, 576), .inr (0, 3), .inr (0, 3), .inr (0, 3), .inr (0, 240), .inr (0, 240)]
def LI_i14 : List (Nat × Nat × Int32) := [(1175, 0, (-1 : Int32))]
def LJ_i14 : List (Nat × Nat × Int64) := []
def LX_i14 (n : Nat) : List (Nat × Nat × Option Nat) := [(1186, 0, (some (n + 44))), (1185, 0, (some (n + 43))), (1180, 0, (some (n + 42))), (1179, 0, (some (n + 41))), (1178, 0, (some (n + 40))), (1177, 0, (some (n + 39))), (1172, 0, (some (n + 38))), (1169, 0, (some (n + 37))), (1168, 0, (some (n + 36))), (1167, 0, (some (n + 35))), (1166, 0, (some (n + 34))), (1165, 0, (some (n + 33))), (1164, 0, (some (n + 32))), (1160, 0, (some (n + 31))), (1159, 0, (some (n + 30))), (1158, 0, (some (n + 29))), (1157, 0, (some (n + 28))), (1156, 0, (some (n + 27))), (1154, 0, (some (n + 26))), (1153, 0, (some (n + 25))), (1149, 0, (some (n + 24))), (1148, 0, (some (n + 23))), (1147, 0, (some (n + 22))), (1146, 0, (some (n + 21))), (1144, 0, (some (n + 20))), (1143, 0, (some (n + 19))), (1132, 0, (some (n + 18))), (1131, 0, (some (n + 17))), (1130, 0, (some (n + 16))), (1129, 0, (some (n + 15))), (1128, 0, (some (n + 14))), (1127, 0, (some (n + 13))), (1126, 0, (some (n + 12))), (1125, 0, (some (n + 11))), (1124, 0, (some (n + 10))), (1121, 0, (some (n + 9))), (1120, 0, (some (n + 8))), (1119, 0, (some (n + 7))), (1118, 0, (some (n + 6))), (1117, 0, (some (n + 5))), (1116, 0, (some (n + 4))), (1115, 0, (some (n + 3))), (1114, 0, (some (n + 2))), (1101, 0, (some (n + 1)))]
def LA_i14 : List (Nat × (Nat → Int32)) := [(19, upd (upd (upd (upd (upd (upd (z0) (0 : Int32).toNatClampNeg (-1 : Int32)) (1 : Int32).toNatClampNeg (-1 : Int32)) (2 : Int32).toNatClampNeg (-1 : Int32)) (3 : Int32).toNatClampNeg (-1 : Int32)) (4 : Int32).toNatClampNeg (-1 : Int32)) (5 : Int32).toNatClampNeg (-1 : Int32)), (19, upd (upd (upd (upd (upd (z0) (0 : Int32).toNatClampNeg (-1 : Int32)) (1 : Int32).toNatClampNeg (-1 : Int32)) (2 : Int32).toNatClampNeg (-1 : Int32)) (3 : Int32).toNatClampNeg (-1 : Int32)) (4 : Int32).toNatClampNeg (-1 : Int32)), (19, upd (upd (upd (upd (z0) (0 : Int32).toNatClampNeg (-1 : Int32)) (1 : Int32).toNatClampNeg (-1 : Int32)) (2 : Int32).toNatClampNeg (-1 : Int32)) (3 : Int32).toNatClampNeg (-1 : Int32)), (19, upd (upd (upd (z0) (0 : Int32).toNatClampNeg (-1 : Int32)) (1 : Int32).toNatClampNeg (-1 : Int32)) (2 : Int32).toNatClampNeg (-1 : Int32)), (19, upd (upd (z0) (0 : Int32).toNatClampNeg (-1 : Int32)) (1 : Int32).toNatClampNeg (-1 : Int32)), (19, upd (z0) (0 : Int32).toNatClampNeg (-1 : Int32))]
def LQ_i14 (G : gG) (n : Nat) : List (Nat × (Nat → Option Nat)) := []
theorem io_i14 (G : gG) (n : Nat) : (∀ e ∈ LI_i14, e.2.1 < 45) ∧ (∀ e ∈ LJ_i14, e.2.1 < 45) ∧ (∀ e ∈ LX_i14 n, e.2.1 < 45) ∧ (∀ e ∈ LA_i14, e.1 < 45) ∧ (∀ e ∈ ([] : List (Nat × (Nat → Int64))), e.1 < 45) ∧ ∀ e ∈ LQ_i14 G n, e.1 < 45 := ⟨ofl_ok rfl, ofl_ok rfl, ofl_ok rfl, ofa_ok rfl, nofun, ofa_ok rfl⟩
set_option maxHeartbeats 4000000 in
theorem i14 (l : Launch) (G : gG) (K : gK) (I : gI) (J : gJ) (X : gX) (A : gI) (B : gJ) (Q : gX) (n : Nat) (hF : fresh G K n) : GMet l yX14_init cX14_init 1 none 1 12 G [.ref n] (bK K n [.inl 11]) (bm 0 I n 1 []) (bm 0 J n 1 []) (bm none X n 1 []) (ba z0 A n 1 []) (ba z1 B n 1 []) (ba z2 Q n 1 []) none (bK K n KS_i14) (bm 0 I n 45 LI_i14) (bm 0 J n 45 LJ_i14) (bm none X n 45 (LX_i14 n)) (ba z0 A n 45 LA_i14) (ba z1 B n 45 []) (ba z2 Q n 45 (LQ_i14 G n)) 44 13617 := by
  refine GMet.of (y := yX14_init) rfl (Nat.le_of_ble_eq_true rfl) rfl ?_
  intro p e s m below meth c ls hx hb hr hml hlocks hts hown hname hG hR hl
  have hown : s.vm.findClass RX14 = some m.cls := hown
  have hS : va_S (gA G) s.heap s.heap [] := va_S.rf
  have hz : G.2.2 ≤ s.heap.size := Nat.le_of_lt (Nat.lt_of_le_of_lt hF.1 (hR.lt (a := n) (by rw [show bK K n [.inl 11] n = some (.inl 11) from bK_at (n := n) (i := 0) rfl]; exact fun h => by cases h)))
  have hB0 : BR G K I J X A B Q n 1 [.inl 11] [] [] [] [] [] [] s.heap := ⟨hF, rfl, ⟨nofun, nofun, nofun, nofun, nofun, nofun⟩, hR⟩
  refine lv_aload_n hx hb dX14_init_0 rfl (lv_at hl 0 rfl) ?_
  refine b_obj hx hb hown hts (hml.trans hl.1.symm) q1615 (Nat.le_of_ble_eq_true rfl) (Nat.le_of_ble_eq_true rfl) dX14_init_1 ?_
  refine lv_aload_n hx hb dX14_init_4 rfl (lv_at hl 0 rfl) ?_
  refine lv_sipush (v := 740) hx hb dX14_init_5 ls_740 ?_
  refine b_newa (atype := .int) (t := 0) hx hb (hts _ q344) hG hB0 hS hz (by decide) rfl (by intro C h; cases h) rfl (by decide) (N := 740) (by decide) (Nat.le_of_ble_eq_true rfl) (Nat.le_of_ble_eq_true rfl) (Nat.le_of_ble_eq_true rfl) dX14_init_8 (fun H hB1 hS => ?_)
  refine b_putFx (i := 0) (v := (some (n + 1))) (ty := (.array .int)) hx hb hts hown hname hG hB1 hS gNX14_7_11 rfl rfl rfl (by decide +kernel) (Or.inr ⟨_, rfl⟩) dX14_init_10 (fun H locs hB2 hS => ?_)
  refine lv_aload_n hx hb dX14_init_13 rfl (lv_at hl 0 rfl) ?_
  refine lv_sipush (v := 800) hx hb dX14_init_14 ls_800 ?_
  refine b_newa (atype := .int) (t := 0) hx hb (hts _ q344) hG hB2 hS hz (by decide) rfl (by intro C h; cases h) rfl (by decide) (N := 800) (by decide) (Nat.le_of_ble_eq_true rfl) (Nat.le_of_ble_eq_true rfl) (Nat.le_of_ble_eq_true rfl) dX14_init_17 (fun H hB3 hS => ?_)
  refine b_putFx (i := 0) (v := (some (n + 2))) (ty := (.array .int)) hx hb hts hown hname hG hB3 hS gNX14_13_11 rfl rfl rfl (by decide +kernel) (Or.inr ⟨_, rfl⟩) dX14_init_19 (fun H locs hB4 hS => ?_)
  refine lv_aload_n hx hb dX14_init_22 rfl (lv_at hl 0 rfl) ?_
  refine lv_sipush (v := 200) hx hb dX14_init_23 ls_200 ?_
  refine b_newa (atype := .int) (t := 0) hx hb (hts _ q344) hG hB4 hS hz (by decide) rfl (by intro C h; cases h) rfl (by decide) (N := 200) (by decide) (Nat.le_of_ble_eq_true rfl) (Nat.le_of_ble_eq_true rfl) (Nat.le_of_ble_eq_true rfl) dX14_init_26 (fun H hB5 hS => ?_)
  refine b_putFx (i := 0) (v := (some (n + 3))) (ty := (.array .int)) hx hb hts hown hname hG hB5 hS gNX14_16_11 rfl rfl rfl (by decide +kernel) (Or.inr ⟨_, rfl⟩) dX14_init_28 (fun H locs hB6 hS => ?_)
  refine lv_aload_n hx hb dX14_init_31 rfl (lv_at hl 0 rfl) ?_
  refine lv_sipush (v := 320) hx hb dX14_init_32 ls_320 ?_
  refine b_newa (atype := .int) (t := 0) hx hb (hts _ q344) hG hB6 hS hz (by decide) rfl (by intro C h; cases h) rfl (by decide) (N := 320) (by decide) (Nat.le_of_ble_eq_true rfl) (Nat.le_of_ble_eq_true rfl) (Nat.le_of_ble_eq_true rfl) dX14_init_35 (fun H hB7 hS => ?_)
  refine b_putFx (i := 0) (v := (some (n + 4))) (ty := (.array .int)) hx hb hts hown hname hG hB7 hS gNX14_19_11 rfl rfl rfl (by decide +kernel) (Or.inr ⟨_, rfl⟩) dX14_init_37 (fun H locs hB8 hS => ?_)
  refine lv_aload_n hx hb dX14_init_40 rfl (lv_at hl 0 rfl) ?_
  refine lv_sipush (v := 1600) hx hb dX14_init_41 ls_1600 ?_
  refine b_newa (atype := .int) (t := 0) hx hb (hts _ q344) hG hB8 hS hz (by decide) rfl (by intro C h; cases h) rfl (by decide) (N := 1600) (by decide) (Nat.le_of_ble_eq_true rfl) (Nat.le_of_ble_eq_true rfl) (Nat.le_of_ble_eq_true rfl) dX14_init_44 (fun H hB9 hS => ?_)
  refine b_putFx (i := 0) (v := (some (n + 5))) (ty := (.array .int)) hx hb hts hown hname hG hB9 hS gNX14_22_11 rfl rfl rfl (by decide +kernel) (Or.inr ⟨_, rfl⟩) dX14_init_46 (fun H locs hB10 hS => ?_)
  refine lv_aload_n hx hb dX14_init_49 rfl (lv_at hl 0 rfl) ?_
  refine lv_bipush (v := 12) hx hb dX14_init_50 lb_12 ?_
  refine b_newal hx hb (hts _ q1890) hG hB10 hS hz (by decide) (N := 12) (by decide) (by decide) (Nat.le_of_ble_eq_true rfl) (Nat.le_of_ble_eq_true rfl) dX14_init_52 (fun H hB11 hS => ?_)
  refine b_putFx (i := 0) (v := (some (n + 6))) (ty := (.array .long)) hx hb hts hown hname hG hB11 hS gNX14_25_11 rfl rfl rfl (by decide +kernel) (Or.inr ⟨_, rfl⟩) dX14_init_54 (fun H locs hB12 hS => ?_)
  refine lv_aload_n hx hb dX14_init_57 rfl (lv_at hl 0 rfl) ?_
  refine lv_bipush (v := 12) hx hb dX14_init_58 lb_12 ?_
  refine b_newal hx hb (hts _ q1890) hG hB12 hS hz (by decide) (N := 12) (by decide) (by decide) (Nat.le_of_ble_eq_true rfl) (Nat.le_of_ble_eq_true rfl) dX14_init_60 (fun H hB13 hS => ?_)
  refine b_putFx (i := 0) (v := (some (n + 7))) (ty := (.array .long)) hx hb hts hown hname hG hB13 hS gNX14_29_11 rfl rfl rfl (by decide +kernel) (Or.inr ⟨_, rfl⟩) dX14_init_62 (fun H locs hB14 hS => ?_)
  refine lv_aload_n hx hb dX14_init_65 rfl (lv_at hl 0 rfl) ?_
  refine lv_bipush (v := 24) hx hb dX14_init_66 lb_24 ?_
  refine b_newal hx hb (hts _ q1890) hG hB14 hS hz (by decide) (N := 24) (by decide) (by decide) (Nat.le_of_ble_eq_true rfl) (Nat.le_of_ble_eq_true rfl) dX14_init_68 (fun H hB15 hS => ?_)
  refine b_putFx (i := 0) (v := (some (n + 8))) (ty := (.array .long)) hx hb hts hown hname hG hB15 hS gNX14_32_11 rfl rfl rfl (by decide +kernel) (Or.inr ⟨_, rfl⟩) dX14_init_70 (fun H locs hB16 hS => ?_)
  refine lv_aload_n hx hb dX14_init_73 rfl (lv_at hl 0 rfl) ?_
  refine lv_iconst (v := 2) hx hb dX14_init_74 li_2 ?_
  refine b_newa (atype := .boolean) (t := 1) hx hb (hts _ q345) hG hB16 hS hz (by decide) rfl (by intro C h; cases h) rfl (by decide) (N := 2) (by decide) (Nat.le_of_ble_eq_true rfl) (Nat.le_of_ble_eq_true rfl) (Nat.le_of_ble_eq_true rfl) dX14_init_75 (fun H hB17 hS => ?_)
  refine b_putFx (i := 0) (v := (some (n + 9))) (ty := (.array .boolean)) hx hb hts hown hname hG hB17 hS gNX14_35_11 rfl rfl rfl (by decide +kernel) (Or.inr ⟨_, rfl⟩) dX14_init_77 (fun H locs hB18 hS => ?_)
  refine lv_aload_n hx hb dX14_init_80 rfl (lv_at hl 0 rfl) ?_
  refine lv_bipush (v := 12) hx hb dX14_init_81 lb_12 ?_
  refine b_newa (atype := .int) (t := 0) hx hb (hts _ q344) hG hB18 hS hz (by decide) rfl (by intro C h; cases h) rfl (by decide) (N := 12) (by decide) (Nat.le_of_ble_eq_true rfl) (Nat.le_of_ble_eq_true rfl) (Nat.le_of_ble_eq_true rfl) dX14_init_83 (fun H hB19 hS => ?_)
  refine b_putFx (i := 0) (v := (some (n + 10))) (ty := (.array .int)) hx hb hts hown hname hG hB19 hS gNX14_39_11 rfl rfl rfl (by decide +kernel) (Or.inr ⟨_, rfl⟩) dX14_init_85 (fun H locs hB20 hS => ?_)
  refine lv_aload_n hx hb dX14_init_88 rfl (lv_at hl 0 rfl) ?_
  refine lv_bipush (v := 12) hx hb dX14_init_89 lb_12 ?_
  refine b_newa (atype := .int) (t := 0) hx hb (hts _ q344) hG hB20 hS hz (by decide) rfl (by intro C h; cases h) rfl (by decide) (N := 12) (by decide) (Nat.le_of_ble_eq_true rfl) (Nat.le_of_ble_eq_true rfl) (Nat.le_of_ble_eq_true rfl) dX14_init_91 (fun H hB21 hS => ?_)
  refine b_putFx (i := 0) (v := (some (n + 11))) (ty := (.array .int)) hx hb hts hown hname hG hB21 hS gNX14_42_11 rfl rfl rfl (by decide +kernel) (Or.inr ⟨_, rfl⟩) dX14_init_93 (fun H locs hB22 hS => ?_)
  refine lv_aload_n hx hb dX14_init_96 rfl (lv_at hl 0 rfl) ?_
  refine lv_bipush (v := 12) hx hb dX14_init_97 lb_12 ?_
  refine b_newa (atype := .int) (t := 0) hx hb (hts _ q344) hG hB22 hS hz (by decide) rfl (by intro C h; cases h) rfl (by decide) (N := 12) (by decide) (Nat.le_of_ble_eq_true rfl) (Nat.le_of_ble_eq_true rfl) (Nat.le_of_ble_eq_true rfl) dX14_init_99 (fun H hB23 hS => ?_)
  refine b_putFx (i := 0) (v := (some (n + 12))) (ty := (.array .int)) hx hb hts hown hname hG hB23 hS gNX14_45_11 rfl rfl rfl (by decide +kernel) (Or.inr ⟨_, rfl⟩) dX14_init_101 (fun H locs hB24 hS => ?_)
  refine lv_aload_n hx hb dX14_init_104 rfl (lv_at hl 0 rfl) ?_
  refine lv_bipush (v := 12) hx hb dX14_init_105 lb_12 ?_
  refine b_newa (atype := .int) (t := 0) hx hb (hts _ q344) hG hB24 hS hz (by decide) rfl (by intro C h; cases h) rfl (by decide) (N := 12) (by decide) (Nat.le_of_ble_eq_true rfl) (Nat.le_of_ble_eq_true rfl) (Nat.le_of_ble_eq_true rfl) dX14_init_107 (fun H hB25 hS => ?_)
  refine b_putFx (i := 0) (v := (some (n + 13))) (ty := (.array .int)) hx hb hts hown hname hG hB25 hS gNX14_48_11 rfl rfl rfl (by decide +kernel) (Or.inr ⟨_, rfl⟩) dX14_init_109 (fun H locs hB26 hS => ?_)
  refine lv_aload_n hx hb dX14_init_112 rfl (lv_at hl 0 rfl) ?_
  refine lv_sipush (v := 360) hx hb dX14_init_113 ls_360 ?_
  refine b_newa (atype := .int) (t := 0) hx hb (hts _ q344) hG hB26 hS hz (by decide) rfl (by intro C h; cases h) rfl (by decide) (N := 360) (by decide) (Nat.le_of_ble_eq_true rfl) (Nat.le_of_ble_eq_true rfl) (Nat.le_of_ble_eq_true rfl) dX14_init_116 (fun H hB27 hS => ?_)
  refine b_putFx (i := 0) (v := (some (n + 14))) (ty := (.array .int)) hx hb hts hown hname hG hB27 hS gNX14_51_11 rfl rfl rfl (by decide +kernel) (Or.inr ⟨_, rfl⟩) dX14_init_118 (fun H locs hB28 hS => ?_)
  refine lv_aload_n hx hb dX14_init_121 rfl (lv_at hl 0 rfl) ?_
  refine lv_bipush (v := 12) hx hb dX14_init_122 lb_12 ?_
  refine b_newa (atype := .int) (t := 0) hx hb (hts _ q344) hG hB28 hS hz (by decide) rfl (by intro C h; cases h) rfl (by decide) (N := 12) (by decide) (Nat.le_of_ble_eq_true rfl) (Nat.le_of_ble_eq_true rfl) (Nat.le_of_ble_eq_true rfl) dX14_init_124 (fun H hB29 hS => ?_)
  refine b_putFx (i := 0) (v := (some (n + 15))) (ty := (.array .int)) hx hb hts hown hname hG hB29 hS gNX14_54_11 rfl rfl rfl (by decide +kernel) (Or.inr ⟨_, rfl⟩) dX14_init_126 (fun H locs hB30 hS => ?_)
  refine lv_aload_n hx hb dX14_init_129 rfl (lv_at hl 0 rfl) ?_
  refine lv_bipush (v := 12) hx hb dX14_init_130 lb_12 ?_
  refine b_newa (atype := .int) (t := 0) hx hb (hts _ q344) hG hB30 hS hz (by decide) rfl (by intro C h; cases h) rfl (by decide) (N := 12) (by decide) (Nat.le_of_ble_eq_true rfl) (Nat.le_of_ble_eq_true rfl) (Nat.le_of_ble_eq_true rfl) dX14_init_132 (fun H hB31 hS => ?_)
  refine b_putFx (i := 0) (v := (some (n + 16))) (ty := (.array .int)) hx hb hts hown hname hG hB31 hS gNX14_57_11 rfl rfl rfl (by decide +kernel) (Or.inr ⟨_, rfl⟩) dX14_init_134 (fun H locs hB32 hS => ?_)
  refine lv_aload_n hx hb dX14_init_137 rfl (lv_at hl 0 rfl) ?_
  refine lv_bipush (v := 30) hx hb dX14_init_138 lb_30 ?_
  refine b_newa (atype := .int) (t := 0) hx hb (hts _ q344) hG hB32 hS hz (by decide) rfl (by intro C h; cases h) rfl (by decide) (N := 30) (by decide) (Nat.le_of_ble_eq_true rfl) (Nat.le_of_ble_eq_true rfl) (Nat.le_of_ble_eq_true rfl) dX14_init_140 (fun H hB33 hS => ?_)
  refine b_putFx (i := 0) (v := (some (n + 17))) (ty := (.array .int)) hx hb hts hown hname hG hB33 hS gNX14_60_11 rfl rfl rfl (by decide +kernel) (Or.inr ⟨_, rfl⟩) dX14_init_142 (fun H locs hB34 hS => ?_)
  refine lv_aload_n hx hb dX14_init_145 rfl (lv_at hl 0 rfl) ?_
  refine lv_bipush (v := 12) hx hb dX14_init_146 lb_12 ?_
  refine b_newa (atype := .int) (t := 0) hx hb (hts _ q344) hG hB34 hS hz (by decide) rfl (by intro C h; cases h) rfl (by decide) (N := 12) (by decide) (Nat.le_of_ble_eq_true rfl) (Nat.le_of_ble_eq_true rfl) (Nat.le_of_ble_eq_true rfl) dX14_init_148 (fun H hB35 hS => ?_)
  refine b_putFx (i := 0) (v := (some (n + 18))) (ty := (.array .int)) hx hb hts hown hname hG hB35 hS gNX14_63_11 rfl rfl rfl (by decide +kernel) (Or.inr ⟨_, rfl⟩) dX14_init_150 (fun H locs hB36 hS => ?_)
  refine lv_aload_n hx hb dX14_init_153 rfl (lv_at hl 0 rfl) ?_
  refine lv_bipush (v := 6) hx hb dX14_init_154 lb_6 ?_
  refine b_newa (atype := .int) (t := 0) hx hb (hts _ q344) hG hB36 hS hz (by decide) rfl (by intro C h; cases h) rfl (by decide) (N := 6) (by decide) (Nat.le_of_ble_eq_true rfl) (Nat.le_of_ble_eq_true rfl) (Nat.le_of_ble_eq_true rfl) dX14_init_156 (fun H hB37 hS => ?_)
  refine lv_dup hx hb dX14_init_158 rfl ?_
  refine lv_iconst (v := 0) hx hb dX14_init_159 li_0 ?_
  refine lv_iconst (v := -1) hx hb dX14_init_160 li_m1 ?_
  refine b_iast (i := 19) hx hb hG hB37 hS rfl (show inb (0 : Int32) _ by decide) rfl dX14_init_161 (fun H locs hB38 hS => ?_)
  refine lv_dup hx hb dX14_init_162 rfl ?_
  refine lv_iconst (v := 1) hx hb dX14_init_163 li_1 ?_
  refine lv_iconst (v := -1) hx hb dX14_init_164 li_m1 ?_
  refine b_iast (i := 19) hx hb hG hB38 hS rfl (show inb (1 : Int32) _ by decide) rfl dX14_init_165 (fun H locs hB39 hS => ?_)
  refine lv_dup hx hb dX14_init_166 rfl ?_
  refine lv_iconst (v := 2) hx hb dX14_init_167 li_2 ?_
  refine lv_iconst (v := -1) hx hb dX14_init_168 li_m1 ?_
  refine b_iast (i := 19) hx hb hG hB39 hS rfl (show inb (2 : Int32) _ by decide) rfl dX14_init_169 (fun H locs hB40 hS => ?_)
  refine lv_dup hx hb dX14_init_170 rfl ?_
  refine lv_iconst (v := 3) hx hb dX14_init_171 li_3 ?_
  refine lv_iconst (v := -1) hx hb dX14_init_172 li_m1 ?_
  refine b_iast (i := 19) hx hb hG hB40 hS rfl (show inb (3 : Int32) _ by decide) rfl dX14_init_173 (fun H locs hB41 hS => ?_)
  refine lv_dup hx hb dX14_init_174 rfl ?_
  refine lv_iconst (v := 4) hx hb dX14_init_175 li_4 ?_
  refine lv_iconst (v := -1) hx hb dX14_init_176 li_m1 ?_
  refine b_iast (i := 19) hx hb hG hB41 hS rfl (show inb (4 : Int32) _ by decide) rfl dX14_init_177 (fun H locs hB42 hS => ?_)
  refine lv_dup hx hb dX14_init_178 rfl ?_
  refine lv_iconst (v := 5) hx hb dX14_init_179 li_5 ?_
  refine lv_iconst (v := -1) hx hb dX14_init_180 li_m1 ?_
  refine b_iast (i := 19) hx hb hG hB42 hS rfl (show inb (5 : Int32) _ by decide) rfl dX14_init_181 (fun H locs hB43 hS => ?_)
  refine b_putFx (i := 0) (v := (some (n + 19))) (ty := (.array .int)) hx hb hts hown hname hG hB43 hS gNX14_66_11 rfl rfl rfl (by decide +kernel) (Or.inr ⟨_, rfl⟩) dX14_init_182 (fun H locs hB44 hS => ?_)
  refine lv_aload_n hx hb dX14_init_185 rfl (lv_at hl 0 rfl) ?_
  refine lv_bipush (v := 12) hx hb dX14_init_186 lb_12 ?_
  refine b_newa (atype := .int) (t := 0) hx hb (hts _ q344) hG hB44 hS hz (by decide) rfl (by intro C h; cases h) rfl (by decide) (N := 12) (by decide) (Nat.le_of_ble_eq_true rfl) (Nat.le_of_ble_eq_true rfl) (Nat.le_of_ble_eq_true rfl) dX14_init_188 (fun H hB45 hS => ?_)
  refine b_putFx (i := 0) (v := (some (n + 20))) (ty := (.array .int)) hx hb hts hown hname hG hB45 hS gNX14_69_11 rfl rfl rfl (by decide +kernel) (Or.inr ⟨_, rfl⟩) dX14_init_190 (fun H locs hB46 hS => ?_)
  refine lv_aload_n hx hb dX14_init_193 rfl (lv_at hl 0 rfl) ?_
  refine lv_bipush (v := 7) hx hb dX14_init_194 lb_7 ?_
  refine b_newa (atype := .int) (t := 0) hx hb (hts _ q344) hG hB46 hS hz (by decide) rfl (by intro C h; cases h) rfl (by decide) (N := 7) (by decide) (Nat.le_of_ble_eq_true rfl) (Nat.le_of_ble_eq_true rfl) (Nat.le_of_ble_eq_true rfl) dX14_init_196 (fun H hB47 hS => ?_)
  refine b_putFx (i := 0) (v := (some (n + 21))) (ty := (.array .int)) hx hb hts hown hname hG hB47 hS gNX14_72_11 rfl rfl rfl (by decide +kernel) (Or.inr ⟨_, rfl⟩) dX14_init_198 (fun H locs hB48 hS => ?_)
  refine lv_aload_n hx hb dX14_init_201 rfl (lv_at hl 0 rfl) ?_
  refine lv_bipush (v := 7) hx hb dX14_init_202 lb_7 ?_
  refine b_newa (atype := .int) (t := 0) hx hb (hts _ q344) hG hB48 hS hz (by decide) rfl (by intro C h; cases h) rfl (by decide) (N := 7) (by decide) (Nat.le_of_ble_eq_true rfl) (Nat.le_of_ble_eq_true rfl) (Nat.le_of_ble_eq_true rfl) dX14_init_204 (fun H hB49 hS => ?_)
  refine b_putFx (i := 0) (v := (some (n + 22))) (ty := (.array .int)) hx hb hts hown hname hG hB49 hS gNX14_75_11 rfl rfl rfl (by decide +kernel) (Or.inr ⟨_, rfl⟩) dX14_init_206 (fun H locs hB50 hS => ?_)
  refine lv_aload_n hx hb dX14_init_209 rfl (lv_at hl 0 rfl) ?_
  refine lv_bipush (v := 7) hx hb dX14_init_210 lb_7 ?_
  refine b_newa (atype := .int) (t := 0) hx hb (hts _ q344) hG hB50 hS hz (by decide) rfl (by intro C h; cases h) rfl (by decide) (N := 7) (by decide) (Nat.le_of_ble_eq_true rfl) (Nat.le_of_ble_eq_true rfl) (Nat.le_of_ble_eq_true rfl) dX14_init_212 (fun H hB51 hS => ?_)
  refine b_putFx (i := 0) (v := (some (n + 23))) (ty := (.array .int)) hx hb hts hown hname hG hB51 hS gNX14_78_11 rfl rfl rfl (by decide +kernel) (Or.inr ⟨_, rfl⟩) dX14_init_214 (fun H locs hB52 hS => ?_)
  refine lv_aload_n hx hb dX14_init_217 rfl (lv_at hl 0 rfl) ?_
  refine lv_bipush (v := 7) hx hb dX14_init_218 lb_7 ?_
  refine b_newa (atype := .int) (t := 0) hx hb (hts _ q344) hG hB52 hS hz (by decide) rfl (by intro C h; cases h) rfl (by decide) (N := 7) (by decide) (Nat.le_of_ble_eq_true rfl) (Nat.le_of_ble_eq_true rfl) (Nat.le_of_ble_eq_true rfl) dX14_init_220 (fun H hB53 hS => ?_)
  refine b_putFx (i := 0) (v := (some (n + 24))) (ty := (.array .int)) hx hb hts hown hname hG hB53 hS gNX14_81_11 rfl rfl rfl (by decide +kernel) (Or.inr ⟨_, rfl⟩) dX14_init_222 (fun H locs hB54 hS => ?_)
  refine lv_aload_n hx hb dX14_init_225 rfl (lv_at hl 0 rfl) ?_
  refine lv_bipush (v := 12) hx hb dX14_init_226 lb_12 ?_
  refine b_newa (atype := .int) (t := 0) hx hb (hts _ q344) hG hB54 hS hz (by decide) rfl (by intro C h; cases h) rfl (by decide) (N := 12) (by decide) (Nat.le_of_ble_eq_true rfl) (Nat.le_of_ble_eq_true rfl) (Nat.le_of_ble_eq_true rfl) dX14_init_228 (fun H hB55 hS => ?_)
  refine b_putFx (i := 0) (v := (some (n + 25))) (ty := (.array .int)) hx hb hts hown hname hG hB55 hS gNX14_84_11 rfl rfl rfl (by decide +kernel) (Or.inr ⟨_, rfl⟩) dX14_init_230 (fun H locs hB56 hS => ?_)
  refine lv_aload_n hx hb dX14_init_233 rfl (lv_at hl 0 rfl) ?_
  refine lv_bipush (v := 12) hx hb dX14_init_234 lb_12 ?_
  refine b_newa (atype := .int) (t := 0) hx hb (hts _ q344) hG hB56 hS hz (by decide) rfl (by intro C h; cases h) rfl (by decide) (N := 12) (by decide) (Nat.le_of_ble_eq_true rfl) (Nat.le_of_ble_eq_true rfl) (Nat.le_of_ble_eq_true rfl) dX14_init_236 (fun H hB57 hS => ?_)
  refine b_putFx (i := 0) (v := (some (n + 26))) (ty := (.array .int)) hx hb hts hown hname hG hB57 hS gNX14_87_11 rfl rfl rfl (by decide +kernel) (Or.inr ⟨_, rfl⟩) dX14_init_238 (fun H locs hB58 hS => ?_)
  refine lv_aload_n hx hb dX14_init_241 rfl (lv_at hl 0 rfl) ?_
  refine lv_bipush (v := 12) hx hb dX14_init_242 lb_12 ?_
  refine b_newa (atype := .int) (t := 0) hx hb (hts _ q344) hG hB58 hS hz (by decide) rfl (by intro C h; cases h) rfl (by decide) (N := 12) (by decide) (Nat.le_of_ble_eq_true rfl) (Nat.le_of_ble_eq_true rfl) (Nat.le_of_ble_eq_true rfl) dX14_init_244 (fun H hB59 hS => ?_)
  refine b_putFx (i := 0) (v := (some (n + 27))) (ty := (.array .int)) hx hb hts hown hname hG hB59 hS gNX14_90_11 rfl rfl rfl (by decide +kernel) (Or.inr ⟨_, rfl⟩) dX14_init_246 (fun H locs hB60 hS => ?_)
  refine lv_aload_n hx hb dX14_init_249 rfl (lv_at hl 0 rfl) ?_
  refine lv_bipush (v := 12) hx hb dX14_init_250 lb_12 ?_
  refine b_newa (atype := .int) (t := 0) hx hb (hts _ q344) hG hB60 hS hz (by decide) rfl (by intro C h; cases h) rfl (by decide) (N := 12) (by decide) (Nat.le_of_ble_eq_true rfl) (Nat.le_of_ble_eq_true rfl) (Nat.le_of_ble_eq_true rfl) dX14_init_252 (fun H hB61 hS => ?_)
  refine b_putFx (i := 0) (v := (some (n + 28))) (ty := (.array .int)) hx hb hts hown hname hG hB61 hS gNX14_93_11 rfl rfl rfl (by decide +kernel) (Or.inr ⟨_, rfl⟩) dX14_init_254 (fun H locs hB62 hS => ?_)
  refine lv_aload_n hx hb dX14_init_257 rfl (lv_at hl 0 rfl) ?_
  refine lv_bipush (v := 6) hx hb dX14_init_258 lb_6 ?_
  refine b_newa (atype := .int) (t := 0) hx hb (hts _ q344) hG hB62 hS hz (by decide) rfl (by intro C h; cases h) rfl (by decide) (N := 6) (by decide) (Nat.le_of_ble_eq_true rfl) (Nat.le_of_ble_eq_true rfl) (Nat.le_of_ble_eq_true rfl) dX14_init_260 (fun H hB63 hS => ?_)
  refine b_putFx (i := 0) (v := (some (n + 29))) (ty := (.array .int)) hx hb hts hown hname hG hB63 hS gNX14_96_11 rfl rfl rfl (by decide +kernel) (Or.inr ⟨_, rfl⟩) dX14_init_262 (fun H locs hB64 hS => ?_)
  refine lv_aload_n hx hb dX14_init_265 rfl (lv_at hl 0 rfl) ?_
  refine lv_bipush (v := 6) hx hb dX14_init_266 lb_6 ?_
  refine b_newa (atype := .int) (t := 0) hx hb (hts _ q344) hG hB64 hS hz (by decide) rfl (by intro C h; cases h) rfl (by decide) (N := 6) (by decide) (Nat.le_of_ble_eq_true rfl) (Nat.le_of_ble_eq_true rfl) (Nat.le_of_ble_eq_true rfl) dX14_init_268 (fun H hB65 hS => ?_)
  refine b_putFx (i := 0) (v := (some (n + 30))) (ty := (.array .int)) hx hb hts hown hname hG hB65 hS gNX14_99_11 rfl rfl rfl (by decide +kernel) (Or.inr ⟨_, rfl⟩) dX14_init_270 (fun H locs hB66 hS => ?_)
  refine lv_aload_n hx hb dX14_init_273 rfl (lv_at hl 0 rfl) ?_
  refine lv_bipush (v := 6) hx hb dX14_init_274 lb_6 ?_
  refine b_newa (atype := .int) (t := 0) hx hb (hts _ q344) hG hB66 hS hz (by decide) rfl (by intro C h; cases h) rfl (by decide) (N := 6) (by decide) (Nat.le_of_ble_eq_true rfl) (Nat.le_of_ble_eq_true rfl) (Nat.le_of_ble_eq_true rfl) dX14_init_276 (fun H hB67 hS => ?_)
  refine b_putFx (i := 0) (v := (some (n + 31))) (ty := (.array .int)) hx hb hts hown hname hG hB67 hS gNX14_102_11 rfl rfl rfl (by decide +kernel) (Or.inr ⟨_, rfl⟩) dX14_init_278 (fun H locs hB68 hS => ?_)
  refine lv_aload_n hx hb dX14_init_281 rfl (lv_at hl 0 rfl) ?_
  refine lv_bipush (v := 64) hx hb dX14_init_282 lb_64 ?_
  refine b_newa (atype := .int) (t := 0) hx hb (hts _ q344) hG hB68 hS hz (by decide) rfl (by intro C h; cases h) rfl (by decide) (N := 64) (by decide) (Nat.le_of_ble_eq_true rfl) (Nat.le_of_ble_eq_true rfl) (Nat.le_of_ble_eq_true rfl) dX14_init_284 (fun H hB69 hS => ?_)
  refine b_putFx (i := 0) (v := (some (n + 32))) (ty := (.array .int)) hx hb hts hown hname hG hB69 hS gNX14_105_11 rfl rfl rfl (by decide +kernel) (Or.inr ⟨_, rfl⟩) dX14_init_286 (fun H locs hB70 hS => ?_)
  refine lv_aload_n hx hb dX14_init_289 rfl (lv_at hl 0 rfl) ?_
  refine lv_bipush (v := 64) hx hb dX14_init_290 lb_64 ?_
  refine b_newa (atype := .int) (t := 0) hx hb (hts _ q344) hG hB70 hS hz (by decide) rfl (by intro C h; cases h) rfl (by decide) (N := 64) (by decide) (Nat.le_of_ble_eq_true rfl) (Nat.le_of_ble_eq_true rfl) (Nat.le_of_ble_eq_true rfl) dX14_init_292 (fun H hB71 hS => ?_)
  refine b_putFx (i := 0) (v := (some (n + 33))) (ty := (.array .int)) hx hb hts hown hname hG hB71 hS gNX14_108_11 rfl rfl rfl (by decide +kernel) (Or.inr ⟨_, rfl⟩) dX14_init_294 (fun H locs hB72 hS => ?_)
  refine lv_aload_n hx hb dX14_init_297 rfl (lv_at hl 0 rfl) ?_
  refine lv_bipush (v := 64) hx hb dX14_init_298 lb_64 ?_
  refine b_newa (atype := .int) (t := 0) hx hb (hts _ q344) hG hB72 hS hz (by decide) rfl (by intro C h; cases h) rfl (by decide) (N := 64) (by decide) (Nat.le_of_ble_eq_true rfl) (Nat.le_of_ble_eq_true rfl) (Nat.le_of_ble_eq_true rfl) dX14_init_300 (fun H hB73 hS => ?_)
  refine b_putFx (i := 0) (v := (some (n + 34))) (ty := (.array .int)) hx hb hts hown hname hG hB73 hS gNX14_111_11 rfl rfl rfl (by decide +kernel) (Or.inr ⟨_, rfl⟩) dX14_init_302 (fun H locs hB74 hS => ?_)
  refine lv_aload_n hx hb dX14_init_305 rfl (lv_at hl 0 rfl) ?_
  refine lv_bipush (v := 64) hx hb dX14_init_306 lb_64 ?_
  refine b_newa (atype := .int) (t := 0) hx hb (hts _ q344) hG hB74 hS hz (by decide) rfl (by intro C h; cases h) rfl (by decide) (N := 64) (by decide) (Nat.le_of_ble_eq_true rfl) (Nat.le_of_ble_eq_true rfl) (Nat.le_of_ble_eq_true rfl) dX14_init_308 (fun H hB75 hS => ?_)
  refine b_putFx (i := 0) (v := (some (n + 35))) (ty := (.array .int)) hx hb hts hown hname hG hB75 hS gNX14_114_11 rfl rfl rfl (by decide +kernel) (Or.inr ⟨_, rfl⟩) dX14_init_310 (fun H locs hB76 hS => ?_)
  refine lv_aload_n hx hb dX14_init_313 rfl (lv_at hl 0 rfl) ?_
  refine lv_sipush (v := 3904) hx hb dX14_init_314 ls_3904 ?_
  refine b_newa (atype := .int) (t := 0) hx hb (hts _ q344) hG hB76 hS hz (by decide) rfl (by intro C h; cases h) rfl (by decide) (N := 3904) (by decide) (Nat.le_of_ble_eq_true rfl) (Nat.le_of_ble_eq_true rfl) (Nat.le_of_ble_eq_true rfl) dX14_init_317 (fun H hB77 hS => ?_)
  refine b_putFx (i := 0) (v := (some (n + 36))) (ty := (.array .int)) hx hb hts hown hname hG hB77 hS gNX14_117_11 rfl rfl rfl (by decide +kernel) (Or.inr ⟨_, rfl⟩) dX14_init_319 (fun H locs hB78 hS => ?_)
  refine lv_aload_n hx hb dX14_init_322 rfl (lv_at hl 0 rfl) ?_
  refine lv_sipush (v := 3904) hx hb dX14_init_323 ls_3904 ?_
  refine b_newa (atype := .int) (t := 0) hx hb (hts _ q344) hG hB78 hS hz (by decide) rfl (by intro C h; cases h) rfl (by decide) (N := 3904) (by decide) (Nat.le_of_ble_eq_true rfl) (Nat.le_of_ble_eq_true rfl) (Nat.le_of_ble_eq_true rfl) dX14_init_326 (fun H hB79 hS => ?_)
  refine b_putFx (i := 0) (v := (some (n + 37))) (ty := (.array .int)) hx hb hts hown hname hG hB79 hS gNX14_120_11 rfl rfl rfl (by decide +kernel) (Or.inr ⟨_, rfl⟩) dX14_init_328 (fun H locs hB80 hS => ?_)
  refine lv_aload_n hx hb dX14_init_331 rfl (lv_at hl 0 rfl) ?_
  refine lv_sipush (v := 192) hx hb dX14_init_332 ls_192 ?_
  refine b_newa (atype := .int) (t := 0) hx hb (hts _ q344) hG hB80 hS hz (by decide) rfl (by intro C h; cases h) rfl (by decide) (N := 192) (by decide) (Nat.le_of_ble_eq_true rfl) (Nat.le_of_ble_eq_true rfl) (Nat.le_of_ble_eq_true rfl) dX14_init_335 (fun H hB81 hS => ?_)
  refine b_putFx (i := 0) (v := (some (n + 38))) (ty := (.array .int)) hx hb hts hown hname hG hB81 hS gNX14_123_11 rfl rfl rfl (by decide +kernel) (Or.inr ⟨_, rfl⟩) dX14_init_337 (fun H locs hB82 hS => ?_)
  refine lv_aload_n hx hb dX14_init_340 rfl (lv_at hl 0 rfl) ?_
  refine lv_iconst (v := -1) hx hb dX14_init_341 li_m1 ?_
  refine b_puti (i := 0) hx hb hts hown hG hB82 hS gPiX14_126_11 rfl dX14_init_342 (fun H locs hB83 hS => ?_)
  refine lv_aload_n hx hb dX14_init_345 rfl (lv_at hl 0 rfl) ?_
  refine lv_sipush (v := 576) hx hb dX14_init_346 ls_576 ?_
  refine b_newa (atype := .int) (t := 0) hx hb (hts _ q344) hG hB83 hS hz (by decide) rfl (by intro C h; cases h) rfl (by decide) (N := 576) (by decide) (Nat.le_of_ble_eq_true rfl) (Nat.le_of_ble_eq_true rfl) (Nat.le_of_ble_eq_true rfl) dX14_init_349 (fun H hB84 hS => ?_)
  refine b_putFx (i := 0) (v := (some (n + 39))) (ty := (.array .int)) hx hb hts hown hname hG hB84 hS gNX14_130_11 rfl rfl rfl (by decide +kernel) (Or.inr ⟨_, rfl⟩) dX14_init_351 (fun H locs hB85 hS => ?_)
  refine lv_aload_n hx hb dX14_init_354 rfl (lv_at hl 0 rfl) ?_
  refine lv_iconst (v := 3) hx hb dX14_init_355 li_3 ?_
  refine b_newa (atype := .int) (t := 0) hx hb (hts _ q344) hG hB85 hS hz (by decide) rfl (by intro C h; cases h) rfl (by decide) (N := 3) (by decide) (Nat.le_of_ble_eq_true rfl) (Nat.le_of_ble_eq_true rfl) (Nat.le_of_ble_eq_true rfl) dX14_init_356 (fun H hB86 hS => ?_)
  refine b_putFx (i := 0) (v := (some (n + 40))) (ty := (.array .int)) hx hb hts hown hname hG hB86 hS gNX14_133_11 rfl rfl rfl (by decide +kernel) (Or.inr ⟨_, rfl⟩) dX14_init_358 (fun H locs hB87 hS => ?_)
  refine lv_aload_n hx hb dX14_init_361 rfl (lv_at hl 0 rfl) ?_
  refine lv_iconst (v := 3) hx hb dX14_init_362 li_3 ?_
  refine b_newa (atype := .int) (t := 0) hx hb (hts _ q344) hG hB87 hS hz (by decide) rfl (by intro C h; cases h) rfl (by decide) (N := 3) (by decide) (Nat.le_of_ble_eq_true rfl) (Nat.le_of_ble_eq_true rfl) (Nat.le_of_ble_eq_true rfl) dX14_init_363 (fun H hB88 hS => ?_)
  refine b_putFx (i := 0) (v := (some (n + 41))) (ty := (.array .int)) hx hb hts hown hname hG hB88 hS gNX14_136_11 rfl rfl rfl (by decide +kernel) (Or.inr ⟨_, rfl⟩) dX14_init_365 (fun H locs hB89 hS => ?_)
  refine lv_aload_n hx hb dX14_init_368 rfl (lv_at hl 0 rfl) ?_
  refine lv_iconst (v := 3) hx hb dX14_init_369 li_3 ?_
  refine b_newa (atype := .int) (t := 0) hx hb (hts _ q344) hG hB89 hS hz (by decide) rfl (by intro C h; cases h) rfl (by decide) (N := 3) (by decide) (Nat.le_of_ble_eq_true rfl) (Nat.le_of_ble_eq_true rfl) (Nat.le_of_ble_eq_true rfl) dX14_init_370 (fun H hB90 hS => ?_)
  refine b_putFx (i := 0) (v := (some (n + 42))) (ty := (.array .int)) hx hb hts hown hname hG hB90 hS gNX14_139_11 rfl rfl rfl (by decide +kernel) (Or.inr ⟨_, rfl⟩) dX14_init_372 (fun H locs hB91 hS => ?_)
  refine lv_aload_n hx hb dX14_init_375 rfl (lv_at hl 0 rfl) ?_
  refine lv_sipush (v := 240) hx hb dX14_init_376 ls_240 ?_
  refine b_newa (atype := .int) (t := 0) hx hb (hts _ q344) hG hB91 hS hz (by decide) rfl (by intro C h; cases h) rfl (by decide) (N := 240) (by decide) (Nat.le_of_ble_eq_true rfl) (Nat.le_of_ble_eq_true rfl) (Nat.le_of_ble_eq_true rfl) dX14_init_379 (fun H hB92 hS => ?_)
  refine b_putFx (i := 0) (v := (some (n + 43))) (ty := (.array .int)) hx hb hts hown hname hG hB92 hS gNX14_142_11 rfl rfl rfl (by decide +kernel) (Or.inr ⟨_, rfl⟩) dX14_init_381 (fun H locs hB93 hS => ?_)
  refine lv_aload_n hx hb dX14_init_384 rfl (lv_at hl 0 rfl) ?_
  refine lv_sipush (v := 240) hx hb dX14_init_385 ls_240 ?_
  refine b_newa (atype := .int) (t := 0) hx hb (hts _ q344) hG hB93 hS hz (by decide) rfl (by intro C h; cases h) rfl (by decide) (N := 240) (by decide) (Nat.le_of_ble_eq_true rfl) (Nat.le_of_ble_eq_true rfl) (Nat.le_of_ble_eq_true rfl) dX14_init_388 (fun H hB94 hS => ?_)
  refine b_putFx (i := 0) (v := (some (n + 44))) (ty := (.array .int)) hx hb hts hown hname hG hB94 hS gNX14_145_11 rfl rfl rfl (by decide +kernel) (Or.inr ⟨_, rfl⟩) dX14_init_390 (fun H locs hB95 hS => ?_)
  have hB : BR G K I J X A B Q n 45 KS_i14 LI_i14 LJ_i14 (LX_i14 n) LA_i14 [] (LQ_i14 G n) _ := hB95
  exact g_vret hx hb hr hlocks hG hB.2.2.2 hS rfl dX14_init_393
def KS_i1 : List (Nat ⊕ (Nat × Nat)) := [.inl 0, .inr (2, 740), .inl 1, .inr (8, 10), .inr (8, 4), .inr (8, 5), .inr (8, 10), .inl 2, .inl 3, .inr (4, 12), .inr (0, 64), .inr (1, 64), .inl 4, .inr (5, 20), .inl 5, .inl 6, .inl 7, .inr (0, 12), .inr (0, 12), .inr (0, 12), .inr (0, 12), .inr (0, 12), .inr (0, 12), .inr (0, 12), .inr (9, 12), .inr (0, 30), .inr (0, 30), .inr (0, 30), .inr (0, 30), .inr (0, 30), .inr (0, 30), .inr (0, 30), .inr (0, 30), .inr (0, 30), .inr (0, 30), .inr (0, 30), .inr (0, 30), .inr (0, 30), .inl 7, .inr (0, 12), .inr (0, 12), .inr (0, 12), .inr (0, 12), .inr (0, 12), .inr (0, 12), .inr (0, 12), .inr (9, 12), .inr (0, 30), .inr (0, 30), .inr (0, 30), .inr (0, 30), .inr (0, 30), .inr (0, 30), .inr (0, 30), .inr (0, 30), .inr (0, 30), .inr (0, 30), .inr (0, 30), .inr (0, 30), .inr (0, 30), .inl 8, .inr (0, 12), .inr (0, 12), .inr (0, 12), .inr (0, 12), .inl 8, .inr (0, 12), .inr (0, 12), .inr (0, 12), .inr (0, 12), .inr (0, 12), .inr (0, 6), .inr (0, 12), .inr (0, 7), .inr (0, 7), .inr (0, 12), .inr (0, 12), .inr (0, 12), .inr (0, 6), .inr (0, 6), .inl 9, .inr (0, 64), .inr (0, 64), .inr (0, 64), .inr (1, 64), .inl 9, .inr (0, 64), .inr (0, 64), .inr (0, 64), .inr (1, 64), .inr (6, 21), .inr (6, 4), .inl 9, .inr (0, 64), .inr (0, 64), .inr (0, 64), .inr (1, 64), .inl 9, .inr (0, 64), .inr (0, 64), .inr (0, 64), .inr (1, 64), .inl 9, .inr (0, 64), .inr (0, 64), .inr (0, 64), .inr (1, 64), .inl 9, .inr (0, 64), .inr (0, 64), .inr (0, 64), .inr (1, 64), .inr (0, 3), .inr (0, 3), .inl 9, .inr (0, 64), .inr (0, 64), .inr (0, 64), .inr (1, 64), .inr (0, 60), .inr (0, 60), .inr (0, 60), .inr (0, 60), .inl 10, .inr (8, 5), .inr (7, 2)]
def LI_i1 : List (Nat × Nat × Int32) := [(1000, 123, (200 : Int32)), (600, 15, (400 : Int32)), (500, 14, (700 : Int32)), (314, 8, (-1 : Int32)), (313, 8, (2 : Int32)), (312, 8, (20 : Int32)), (310, 8, (9999 : Int32)), (309, 8, (5 : Int32)), (308, 8, (8 : Int32)), (307, 8, (6 : Int32)), (306, 8, (30 : Int32))]
def LJ_i1 : List (Nat × Nat × Int64) := []
def LX_i1 (n : Nat) : List (Nat × Nat × Option Nat) := [(51, 0, (some (n + 125))), (50, 0, (some (n + 123))), (1008, 123, (some (n + 124))), (1007, 123, (some (n + 0))), (1010, 123, (some (n + 0))), (49, 0, (some (n + 122))), (48, 0, (some (n + 121))), (47, 0, (some (n + 120))), (46, 0, (some (n + 119))), (45, 0, (some (n + 114))), (903, 114, (some (n + 118))), (902, 114, (some (n + 117))), (901, 114, (some (n + 116))), (900, 114, (some (n + 115))), (42, 0, (some (n + 113))), (41, 0, (some (n + 112))), (40, 0, (some (n + 91))), (903, 107, (some (n + 111))), (902, 107, (some (n + 110))), (901, 107, (some (n + 109))), (900, 107, (some (n + 108))), (903, 102, (some (n + 106))), (902, 102, (some (n + 105))), (901, 102, (some (n + 104))), (900, 102, (some (n + 103))), (903, 97, (some (n + 101))), (902, 97, (some (n + 100))), (901, 97, (some (n + 99))), (900, 97, (some (n + 98))), (903, 92, (some (n + 96))), (902, 92, (some (n + 95))), (901, 92, (some (n + 94))), (900, 92, (some (n + 93))), (37, 0, (some (n + 90))), (36, 0, (some (n + 85))), (903, 85, (some (n + 89))), (902, 85, (some (n + 88))), (901, 85, (some (n + 87))), (900, 85, (some (n + 86))), (35, 0, (some (n + 80))), (903, 80, (some (n + 84))), (902, 80, (some (n + 83))), (901, 80, (some (n + 82))), (900, 80, (some (n + 81))), (32, 0, (some (n + 79))), (31, 0, (some (n + 78))), (30, 0, (some (n + 77))), (28, 0, (some (n + 76))), (27, 0, (some (n + 75))), (24, 0, (some (n + 74))), (23, 0, (some (n + 73))), (21, 0, (some (n + 72))), (20, 0, (some (n + 71))), (17, 0, (some (n + 70))), (16, 0, (some (n + 65))), (808, 65, (some (n + 69))), (807, 65, (some (n + 68))), (806, 65, (some (n + 67))), (800, 65, (some (n + 66))), (15, 0, (some (n + 60))), (808, 60, (some (n + 64))), (807, 60, (some (n + 63))), (806, 60, (some (n + 62))), (800, 60, (some (n + 61))), (14, 0, (some (n + 38))), (713, 38, (some (n + 59))), (712, 38, (some (n + 46))), (711, 38, (some (n + 45))), (710, 38, (some (n + 44))), (709, 38, (some (n + 43))), (708, 38, (some (n + 42))), (707, 38, (some (n + 41))), (706, 38, (some (n + 40))), (700, 38, (some (n + 39))), (13, 0, (some (n + 16))), (713, 16, (some (n + 37))), (712, 16, (some (n + 24))), (711, 16, (some (n + 23))), (710, 16, (some (n + 22))), (709, 16, (some (n + 21))), (708, 16, (some (n + 20))), (707, 16, (some (n + 19))), (706, 16, (some (n + 18))), (700, 16, (some (n + 17))), (11, 0, (some (n + 15))), (607, 15, (some (n + 0))), (609, 15, (some (n + 0))), (10, 0, (some (n + 14))), (507, 14, (some (n + 0))), (509, 14, (some (n + 0))), (9, 0, (some (n + 7))), (201, 7, (some (n + 12))), (400, 12, (some (n + 13))), (200, 7, (some (n + 8))), (302, 8, (some (n + 11))), (301, 8, (some (n + 10))), (300, 8, (some (n + 9))), (8, 0, (some (n + 6))), (7, 0, (some (n + 5))), (6, 0, (some (n + 4))), (5, 0, (some (n + 3))), (4, 0, (some (n + 2))), (0, 0, (some (n + 1)))]
def LA_i1 : List (Nat × (Nat → Int32)) := []
def LQ_i1 (G : gG) (n : Nat) : List (Nat × (Nat → Option Nat)) := [(124, va_up (va_up (va_up (va_up (va_up (z2) (0 : Int32).toNatClampNeg (some (aK G 24))) (1 : Int32).toNatClampNeg (some (aK G 25))) (2 : Int32).toNatClampNeg (some (aK G 26))) (3 : Int32).toNatClampNeg (some (aK G 27))) (4 : Int32).toNatClampNeg (some (aK G 28))), (124, va_up (va_up (va_up (va_up (z2) (0 : Int32).toNatClampNeg (some (aK G 24))) (1 : Int32).toNatClampNeg (some (aK G 25))) (2 : Int32).toNatClampNeg (some (aK G 26))) (3 : Int32).toNatClampNeg (some (aK G 27))), (124, va_up (va_up (va_up (z2) (0 : Int32).toNatClampNeg (some (aK G 24))) (1 : Int32).toNatClampNeg (some (aK G 25))) (2 : Int32).toNatClampNeg (some (aK G 26))), (124, va_up (va_up (z2) (0 : Int32).toNatClampNeg (some (aK G 24))) (1 : Int32).toNatClampNeg (some (aK G 25))), (124, va_up (z2) (0 : Int32).toNatClampNeg (some (aK G 24))), (91, va_up (va_up (va_up (va_up (z2) (0 : Int32).toNatClampNeg (some (n + 92))) (1 : Int32).toNatClampNeg (some (n + 97))) (2 : Int32).toNatClampNeg (some (n + 102))) (3 : Int32).toNatClampNeg (some (n + 107))), (91, va_up (va_up (va_up (z2) (0 : Int32).toNatClampNeg (some (n + 92))) (1 : Int32).toNatClampNeg (some (n + 97))) (2 : Int32).toNatClampNeg (some (n + 102))), (91, va_up (va_up (z2) (0 : Int32).toNatClampNeg (some (n + 92))) (1 : Int32).toNatClampNeg (some (n + 97))), (91, va_up (z2) (0 : Int32).toNatClampNeg (some (n + 92))), (46, gridq (n + 47)), (24, gridq (n + 25)), (6, va_up (va_up (va_up (va_up (va_up (va_up (va_up (va_up (va_up (va_up (z2) (0 : Int32).toNatClampNeg (some (aK G 19))) (1 : Int32).toNatClampNeg (some (aK G 20))) (2 : Int32).toNatClampNeg (some (aK G 21))) (3 : Int32).toNatClampNeg (some (aK G 22))) (4 : Int32).toNatClampNeg (some (aK G 23))) (5 : Int32).toNatClampNeg (some (aK G 24))) (6 : Int32).toNatClampNeg (some (aK G 25))) (7 : Int32).toNatClampNeg (some (aK G 26))) (8 : Int32).toNatClampNeg (some (aK G 27))) (9 : Int32).toNatClampNeg (some (aK G 28))), (6, va_up (va_up (va_up (va_up (va_up (va_up (va_up (va_up (va_up (z2) (0 : Int32).toNatClampNeg (some (aK G 19))) (1 : Int32).toNatClampNeg (some (aK G 20))) (2 : Int32).toNatClampNeg (some (aK G 21))) (3 : Int32).toNatClampNeg (some (aK G 22))) (4 : Int32).toNatClampNeg (some (aK G 23))) (5 : Int32).toNatClampNeg (some (aK G 24))) (6 : Int32).toNatClampNeg (some (aK G 25))) (7 : Int32).toNatClampNeg (some (aK G 26))) (8 : Int32).toNatClampNeg (some (aK G 27))), (6, va_up (va_up (va_up (va_up (va_up (va_up (va_up (va_up (z2) (0 : Int32).toNatClampNeg (some (aK G 19))) (1 : Int32).toNatClampNeg (some (aK G 20))) (2 : Int32).toNatClampNeg (some (aK G 21))) (3 : Int32).toNatClampNeg (some (aK G 22))) (4 : Int32).toNatClampNeg (some (aK G 23))) (5 : Int32).toNatClampNeg (some (aK G 24))) (6 : Int32).toNatClampNeg (some (aK G 25))) (7 : Int32).toNatClampNeg (some (aK G 26))), (6, va_up (va_up (va_up (va_up (va_up (va_up (va_up (z2) (0 : Int32).toNatClampNeg (some (aK G 19))) (1 : Int32).toNatClampNeg (some (aK G 20))) (2 : Int32).toNatClampNeg (some (aK G 21))) (3 : Int32).toNatClampNeg (some (aK G 22))) (4 : Int32).toNatClampNeg (some (aK G 23))) (5 : Int32).toNatClampNeg (some (aK G 24))) (6 : Int32).toNatClampNeg (some (aK G 25))), (6, va_up (va_up (va_up (va_up (va_up (va_up (z2) (0 : Int32).toNatClampNeg (some (aK G 19))) (1 : Int32).toNatClampNeg (some (aK G 20))) (2 : Int32).toNatClampNeg (some (aK G 21))) (3 : Int32).toNatClampNeg (some (aK G 22))) (4 : Int32).toNatClampNeg (some (aK G 23))) (5 : Int32).toNatClampNeg (some (aK G 24))), (6, va_up (va_up (va_up (va_up (va_up (z2) (0 : Int32).toNatClampNeg (some (aK G 19))) (1 : Int32).toNatClampNeg (some (aK G 20))) (2 : Int32).toNatClampNeg (some (aK G 21))) (3 : Int32).toNatClampNeg (some (aK G 22))) (4 : Int32).toNatClampNeg (some (aK G 23))), (6, va_up (va_up (va_up (va_up (z2) (0 : Int32).toNatClampNeg (some (aK G 19))) (1 : Int32).toNatClampNeg (some (aK G 20))) (2 : Int32).toNatClampNeg (some (aK G 21))) (3 : Int32).toNatClampNeg (some (aK G 22))), (6, va_up (va_up (va_up (z2) (0 : Int32).toNatClampNeg (some (aK G 19))) (1 : Int32).toNatClampNeg (some (aK G 20))) (2 : Int32).toNatClampNeg (some (aK G 21))), (6, va_up (va_up (z2) (0 : Int32).toNatClampNeg (some (aK G 19))) (1 : Int32).toNatClampNeg (some (aK G 20))), (6, va_up (z2) (0 : Int32).toNatClampNeg (some (aK G 19))), (5, va_up (va_up (va_up (va_up (va_up (z2) (0 : Int32).toNatClampNeg (some (aK G 14))) (1 : Int32).toNatClampNeg (some (aK G 15))) (2 : Int32).toNatClampNeg (some (aK G 16))) (3 : Int32).toNatClampNeg (some (aK G 17))) (4 : Int32).toNatClampNeg (some (aK G 18))), (5, va_up (va_up (va_up (va_up (z2) (0 : Int32).toNatClampNeg (some (aK G 14))) (1 : Int32).toNatClampNeg (some (aK G 15))) (2 : Int32).toNatClampNeg (some (aK G 16))) (3 : Int32).toNatClampNeg (some (aK G 17))), (5, va_up (va_up (va_up (z2) (0 : Int32).toNatClampNeg (some (aK G 14))) (1 : Int32).toNatClampNeg (some (aK G 15))) (2 : Int32).toNatClampNeg (some (aK G 16))), (5, va_up (va_up (z2) (0 : Int32).toNatClampNeg (some (aK G 14))) (1 : Int32).toNatClampNeg (some (aK G 15))), (5, va_up (z2) (0 : Int32).toNatClampNeg (some (aK G 14))), (4, va_up (va_up (va_up (va_up (z2) (0 : Int32).toNatClampNeg (some (aK G 10))) (1 : Int32).toNatClampNeg (some (aK G 11))) (2 : Int32).toNatClampNeg (some (aK G 12))) (3 : Int32).toNatClampNeg (some (aK G 13))), (4, va_up (va_up (va_up (z2) (0 : Int32).toNatClampNeg (some (aK G 10))) (1 : Int32).toNatClampNeg (some (aK G 11))) (2 : Int32).toNatClampNeg (some (aK G 12))), (4, va_up (va_up (z2) (0 : Int32).toNatClampNeg (some (aK G 10))) (1 : Int32).toNatClampNeg (some (aK G 11))), (4, va_up (z2) (0 : Int32).toNatClampNeg (some (aK G 10))), (3, va_up (va_up (va_up (va_up (va_up (va_up (va_up (va_up (va_up (va_up (z2) (0 : Int32).toNatClampNeg (some (aK G 0))) (1 : Int32).toNatClampNeg (some (aK G 1))) (2 : Int32).toNatClampNeg (some (aK G 2))) (3 : Int32).toNatClampNeg (some (aK G 3))) (4 : Int32).toNatClampNeg (some (aK G 4))) (5 : Int32).toNatClampNeg (some (aK G 5))) (6 : Int32).toNatClampNeg (some (aK G 6))) (7 : Int32).toNatClampNeg (some (aK G 7))) (8 : Int32).toNatClampNeg (some (aK G 8))) (9 : Int32).toNatClampNeg (some (aK G 9))), (3, va_up (va_up (va_up (va_up (va_up (va_up (va_up (va_up (va_up (z2) (0 : Int32).toNatClampNeg (some (aK G 0))) (1 : Int32).toNatClampNeg (some (aK G 1))) (2 : Int32).toNatClampNeg (some (aK G 2))) (3 : Int32).toNatClampNeg (some (aK G 3))) (4 : Int32).toNatClampNeg (some (aK G 4))) (5 : Int32).toNatClampNeg (some (aK G 5))) (6 : Int32).toNatClampNeg (some (aK G 6))) (7 : Int32).toNatClampNeg (some (aK G 7))) (8 : Int32).toNatClampNeg (some (aK G 8))), (3, va_up (va_up (va_up (va_up (va_up (va_up (va_up (va_up (z2) (0 : Int32).toNatClampNeg (some (aK G 0))) (1 : Int32).toNatClampNeg (some (aK G 1))) (2 : Int32).toNatClampNeg (some (aK G 2))) (3 : Int32).toNatClampNeg (some (aK G 3))) (4 : Int32).toNatClampNeg (some (aK G 4))) (5 : Int32).toNatClampNeg (some (aK G 5))) (6 : Int32).toNatClampNeg (some (aK G 6))) (7 : Int32).toNatClampNeg (some (aK G 7))), (3, va_up (va_up (va_up (va_up (va_up (va_up (va_up (z2) (0 : Int32).toNatClampNeg (some (aK G 0))) (1 : Int32).toNatClampNeg (some (aK G 1))) (2 : Int32).toNatClampNeg (some (aK G 2))) (3 : Int32).toNatClampNeg (some (aK G 3))) (4 : Int32).toNatClampNeg (some (aK G 4))) (5 : Int32).toNatClampNeg (some (aK G 5))) (6 : Int32).toNatClampNeg (some (aK G 6))), (3, va_up (va_up (va_up (va_up (va_up (va_up (z2) (0 : Int32).toNatClampNeg (some (aK G 0))) (1 : Int32).toNatClampNeg (some (aK G 1))) (2 : Int32).toNatClampNeg (some (aK G 2))) (3 : Int32).toNatClampNeg (some (aK G 3))) (4 : Int32).toNatClampNeg (some (aK G 4))) (5 : Int32).toNatClampNeg (some (aK G 5))), (3, va_up (va_up (va_up (va_up (va_up (z2) (0 : Int32).toNatClampNeg (some (aK G 0))) (1 : Int32).toNatClampNeg (some (aK G 1))) (2 : Int32).toNatClampNeg (some (aK G 2))) (3 : Int32).toNatClampNeg (some (aK G 3))) (4 : Int32).toNatClampNeg (some (aK G 4))), (3, va_up (va_up (va_up (va_up (z2) (0 : Int32).toNatClampNeg (some (aK G 0))) (1 : Int32).toNatClampNeg (some (aK G 1))) (2 : Int32).toNatClampNeg (some (aK G 2))) (3 : Int32).toNatClampNeg (some (aK G 3))), (3, va_up (va_up (va_up (z2) (0 : Int32).toNatClampNeg (some (aK G 0))) (1 : Int32).toNatClampNeg (some (aK G 1))) (2 : Int32).toNatClampNeg (some (aK G 2))), (3, va_up (va_up (z2) (0 : Int32).toNatClampNeg (some (aK G 0))) (1 : Int32).toNatClampNeg (some (aK G 1))), (3, va_up (z2) (0 : Int32).toNatClampNeg (some (aK G 0)))]
theorem io_i1 (G : gG) (n : Nat) : (∀ e ∈ LI_i1, e.2.1 < 126) ∧ (∀ e ∈ LJ_i1, e.2.1 < 126) ∧ (∀ e ∈ LX_i1 n, e.2.1 < 126) ∧ (∀ e ∈ LA_i1, e.1 < 126) ∧ (∀ e ∈ ([] : List (Nat × (Nat → Int64))), e.1 < 126) ∧ ∀ e ∈ LQ_i1 G n, e.1 < 126 := ⟨ofl_ok rfl, ofl_ok rfl, ofl_ok rfl, ofa_ok rfl, nofun, ofa_ok rfl⟩
set_option maxHeartbeats 4000000 in
theorem i1 (l : Launch) (G : gG) (K : gK) (I : gI) (J : gJ) (X : gX) (A : gI) (B : gJ) (Q : gX) (n : Nat) (hF : fresh G K n) : GMetX l yX1_init cX1_init 1 none 4 80 G [.ref n] (bK K n [.inl 0]) (bm 0 I n 1 []) (bm 0 J n 1 []) (bm none X n 1 []) (ba z0 A n 1 []) (ba z1 B n 1 []) (ba z2 Q n 1 []) (.inr none) (bK K n KS_i1) (bm 0 I n 126 LI_i1) (bm 0 J n 126 LJ_i1) (bm none X n 126 (LX_i1 n)) (ba z0 A n 126 LA_i1) (ba z1 B n 126 []) (ba z2 Q n 126 (LQ_i1 G n)) 125 4318 := by
  refine GMetX.of (y := yX1_init) rfl (Nat.le_of_ble_eq_true rfl) rfl ?_
  intro p e s m below meth c ls hx hb hr hml hlocks hts hown hname ht hG hR hW hl
  have hown : s.vm.findClass RX1 = some m.cls := hown
  have hS : va_S (gA G) s.heap s.heap [] := va_S.rf
  have hz : G.2.2 ≤ s.heap.size := Nat.le_of_lt (Nat.lt_of_le_of_lt hF.1 (hR.lt (a := n) (by rw [show bK K n [.inl 0] n = some (.inl 0) from bK_at (n := n) (i := 0) rfl]; exact fun h => by cases h)))
  have hB0 : BR G K I J X A B Q n 1 [.inl 0] [] [] [] [] [] [] s.heap := ⟨hF, rfl, ⟨nofun, nofun, nofun, nofun, nofun, nofun⟩, hR⟩
  refine lv_aload_n hx hb dX1_init_0 rfl (lv_at hl 0 rfl) ?_
  refine b_obj hx hb hown hts (hml.trans hl.1.symm) q140 (Nat.le_of_ble_eq_true rfl) (Nat.le_of_ble_eq_true rfl) dX1_init_1 ?_
  refine lv_aload_n hx hb dX1_init_4 rfl (lv_at hl 0 rfl) ?_
  refine lv_sipush (v := 740) hx hb dX1_init_5 ls_740 ?_
  refine b_newa (atype := .byte) (t := 2) hx hb (hts _ q211) hG hB0 hS hz (by decide) rfl (by intro C h; cases h) rfl (by decide) (N := 740) (by decide) (Nat.le_of_ble_eq_true rfl) (Nat.le_of_ble_eq_true rfl) (Nat.le_of_ble_eq_true rfl) dX1_init_8 (fun H hB1 hS => ?_)
  refine b_putFx (i := 0) (v := (some (n + 1))) (ty := (.array .byte)) hx hb hts hown hname hG hB1 hS gNX1_9_0 rfl rfl rfl (by decide +kernel) (Or.inr ⟨_, rfl⟩) dX1_init_10 (fun H locs hB2 hS => ?_)
  refine lv_aload_n hx hb dX1_init_13 rfl (lv_at hl 0 rfl) ?_
  refine b_new (ci := 1) (T := TX2) (N := 8) hx hb hts in_X2 tyX2 tyX2_ok hown (hts _ q143) (hts _ q144) (hts _ q106) hG hB2 hS hz rfl (by decide) hdv_1 (Nat.le_of_ble_eq_true rfl) (Nat.le_of_ble_eq_true rfl) dX1_init_14 (fun H hB3 hS => ?_)
  refine lv_dup hx hb dX1_init_17 rfl ?_
  refine b_cIX (rm := (3, 60)) (As := []) (rest := [.ref (n + 2), .ref (n + 0)]) (mc := 0) (ms := 0) (ks2 := KS_i2) (li2 := LI_i2) (lj2 := LJ_i2) (lx2 := LX_i2 (n + 2)) (la2 := LA_i2) (lb2 := []) (lq2 := LQ_i2 G (n + 2)) ⟨hx, hb, hml, hown, hts⟩ hG hW hB3 hS rfl hB2.2.2.1 (fun K I J X A B Q hF => i2 l G K I J X A B Q (n + 2) hF) ⟨callB_of 0 hts (lw_meth q183) rfl rfl rfl (hts _ q106) (hts _ q181) (by decide +kernel) ⟨Nat.le_of_ble_eq_true rfl, Nat.le_of_ble_eq_true rfl⟩, rfl, hts _ q182⟩ rfl hl.1 (Nat.le_of_ble_eq_true rfl) dX1_init_18 ⟨Nat.le_of_ble_eq_true rfl, Nat.le_of_ble_eq_true rfl⟩ rfl rfl (io_i2 G (n + 2)) rfl rfl rfl rfl rfl rfl rfl (fun H locs hB4 hS => ?_)
  refine b_putFx (i := 0) (v := (some (n + 2))) (ty := (.object "PailRow$Fault")) hx hb hts hown hname hG hB4 hS gNX1_16_0 rfl rfl rfl (by decide +kernel) (Or.inl ⟨_, rfl⟩) dX1_init_21 (fun H locs hB5 hS => ?_)
  refine lv_aload_n hx hb dX1_init_24 rfl (lv_at hl 0 rfl) ?_
  refine lv_bipush (v := 10) hx hb dX1_init_25 lb_10 ?_
  refine b_newq (t := 4) hx hb hown (hts _ q212) (hG.2 _ q213 rfl) hG hB5 hS hz rfl (by decide) (N := 10) (by decide) (Nat.le_of_ble_eq_true rfl) (Nat.le_of_ble_eq_true rfl) (Nat.le_of_ble_eq_true rfl) dX1_init_27 (fun H hB6 hS => ?_)
  refine lv_dup hx hb dX1_init_30 rfl ?_
  refine lv_iconst (v := 0) hx hb dX1_init_31 li_0 ?_
  refine b_ldcS (k := 0) (tx := "man") hx hb hown hW (by decide) dX1_init_32 ?_
  refine b_aastS (i := 3) hx hb hG hW hB6 hS rfl (Nat.le_of_ble_eq_true rfl) (show inb (0 : Int32) _ by decide) rfl dX1_init_34 (fun H locs hB7 hS => ?_)
  refine lv_dup hx hb dX1_init_35 rfl ?_
  refine lv_iconst (v := 1) hx hb dX1_init_36 li_1 ?_
  refine b_ldcS (k := 1) (tx := "way") hx hb hown hW (by decide) dX1_init_37 ?_
  refine b_aastS (i := 3) hx hb hG hW hB7 hS rfl (Nat.le_of_ble_eq_true rfl) (show inb (1 : Int32) _ by decide) rfl dX1_init_39 (fun H locs hB8 hS => ?_)
  refine lv_dup hx hb dX1_init_40 rfl ?_
  refine lv_iconst (v := 2) hx hb dX1_init_41 li_2 ?_
  refine b_ldcS (k := 2) (tx := "pails") hx hb hown hW (by decide) dX1_init_42 ?_
  refine b_aastS (i := 3) hx hb hG hW hB8 hS rfl (Nat.le_of_ble_eq_true rfl) (show inb (2 : Int32) _ by decide) rfl dX1_init_44 (fun H locs hB9 hS => ?_)
  refine lv_dup hx hb dX1_init_45 rfl ?_
  refine lv_iconst (v := 3) hx hb dX1_init_46 li_3 ?_
  refine b_ldcS (k := 3) (tx := "well") hx hb hown hW (by decide) dX1_init_47 ?_
  refine b_aastS (i := 3) hx hb hG hW hB9 hS rfl (Nat.le_of_ble_eq_true rfl) (show inb (3 : Int32) _ by decide) rfl dX1_init_49 (fun H locs hB10 hS => ?_)
  refine lv_dup hx hb dX1_init_50 rfl ?_
  refine lv_iconst (v := 4) hx hb dX1_init_51 li_4 ?_
  refine b_ldcS (k := 4) (tx := "spill") hx hb hown hW (by decide) dX1_init_52 ?_
  refine b_aastS (i := 3) hx hb hG hW hB10 hS rfl (Nat.le_of_ble_eq_true rfl) (show inb (4 : Int32) _ by decide) rfl dX1_init_54 (fun H locs hB11 hS => ?_)
  refine lv_dup hx hb dX1_init_55 rfl ?_
  refine lv_iconst (v := 5) hx hb dX1_init_56 li_5 ?_
  refine b_ldcS (k := 5) (tx := "back") hx hb hown hW (by decide) dX1_init_57 ?_
  refine b_aastS (i := 3) hx hb hG hW hB11 hS rfl (Nat.le_of_ble_eq_true rfl) (show inb (5 : Int32) _ by decide) rfl dX1_init_59 (fun H locs hB12 hS => ?_)
  refine lv_dup hx hb dX1_init_60 rfl ?_
  refine lv_bipush (v := 6) hx hb dX1_init_61 lb_6 ?_
  refine b_ldcS (k := 6) (tx := "throw") hx hb hown hW (by decide) dX1_init_63 ?_
  refine b_aastS (i := 3) hx hb hG hW hB12 hS rfl (Nat.le_of_ble_eq_true rfl) (show inb (6 : Int32) _ by decide) rfl dX1_init_65 (fun H locs hB13 hS => ?_)
  refine lv_dup hx hb dX1_init_66 rfl ?_
  refine lv_bipush (v := 7) hx hb dX1_init_67 lb_7 ?_
  refine b_ldcS (k := 7) (tx := "wind") hx hb hown hW (by decide) dX1_init_69 ?_
  refine b_aastS (i := 3) hx hb hG hW hB13 hS rfl (Nat.le_of_ble_eq_true rfl) (show inb (7 : Int32) _ by decide) rfl dX1_init_71 (fun H locs hB14 hS => ?_)
  refine lv_dup hx hb dX1_init_72 rfl ?_
  refine lv_bipush (v := 8) hx hb dX1_init_73 lb_8 ?_
  refine b_ldcS (k := 8) (tx := "cells") hx hb hown hW (by decide) dX1_init_75 ?_
  refine b_aastS (i := 3) hx hb hG hW hB14 hS rfl (Nat.le_of_ble_eq_true rfl) (show inb (8 : Int32) _ by decide) rfl dX1_init_77 (fun H locs hB15 hS => ?_)
  refine lv_dup hx hb dX1_init_78 rfl ?_
  refine lv_bipush (v := 9) hx hb dX1_init_79 lb_9 ?_
  refine b_ldcS (k := 9) (tx := "burn") hx hb hown hW (by decide) dX1_init_81 ?_
  refine b_aastS (i := 3) hx hb hG hW hB15 hS rfl (Nat.le_of_ble_eq_true rfl) (show inb (9 : Int32) _ by decide) rfl dX1_init_83 (fun H locs hB16 hS => ?_)
  refine b_putFx (i := 0) (v := (some (n + 3))) (ty := (.array (.object "java/lang/String"))) hx hb hts hown hname hG hB16 hS gNX1_42_0 rfl rfl rfl (by decide +kernel) (Or.inr ⟨_, rfl⟩) dX1_init_84 (fun H locs hB17 hS => ?_)
  refine lv_aload_n hx hb dX1_init_87 rfl (lv_at hl 0 rfl) ?_
  refine lv_iconst (v := 4) hx hb dX1_init_88 li_4 ?_
  refine b_newq (t := 4) hx hb hown (hts _ q212) (hG.2 _ q213 rfl) hG hB17 hS hz rfl (by decide) (N := 4) (by decide) (Nat.le_of_ble_eq_true rfl) (Nat.le_of_ble_eq_true rfl) (Nat.le_of_ble_eq_true rfl) dX1_init_89 (fun H hB18 hS => ?_)
  refine lv_dup hx hb dX1_init_92 rfl ?_
  refine lv_iconst (v := 0) hx hb dX1_init_93 li_0 ?_
  refine b_ldcS (k := 10) (tx := "north") hx hb hown hW (by decide) dX1_init_94 ?_
  refine b_aastS (i := 4) hx hb hG hW hB18 hS rfl (Nat.le_of_ble_eq_true rfl) (show inb (0 : Int32) _ by decide) rfl dX1_init_96 (fun H locs hB19 hS => ?_)
  refine lv_dup hx hb dX1_init_97 rfl ?_
  refine lv_iconst (v := 1) hx hb dX1_init_98 li_1 ?_
  refine b_ldcS (k := 11) (tx := "east") hx hb hown hW (by decide) dX1_init_99 ?_
  refine b_aastS (i := 4) hx hb hG hW hB19 hS rfl (Nat.le_of_ble_eq_true rfl) (show inb (1 : Int32) _ by decide) rfl dX1_init_101 (fun H locs hB20 hS => ?_)
  refine lv_dup hx hb dX1_init_102 rfl ?_
  refine lv_iconst (v := 2) hx hb dX1_init_103 li_2 ?_
  refine b_ldcS (k := 12) (tx := "south") hx hb hown hW (by decide) dX1_init_104 ?_
  refine b_aastS (i := 4) hx hb hG hW hB20 hS rfl (Nat.le_of_ble_eq_true rfl) (show inb (2 : Int32) _ by decide) rfl dX1_init_106 (fun H locs hB21 hS => ?_)
  refine lv_dup hx hb dX1_init_107 rfl ?_
  refine lv_iconst (v := 3) hx hb dX1_init_108 li_3 ?_
  refine b_ldcS (k := 13) (tx := "west") hx hb hown hW (by decide) dX1_init_109 ?_
  refine b_aastS (i := 4) hx hb hG hW hB21 hS rfl (Nat.le_of_ble_eq_true rfl) (show inb (3 : Int32) _ by decide) rfl dX1_init_111 (fun H locs hB22 hS => ?_)
  refine b_putFx (i := 0) (v := (some (n + 4))) (ty := (.array (.object "java/lang/String"))) hx hb hts hown hname hG hB22 hS gNX1_54_0 rfl rfl rfl (by decide +kernel) (Or.inr ⟨_, rfl⟩) dX1_init_112 (fun H locs hB23 hS => ?_)
  refine lv_aload_n hx hb dX1_init_115 rfl (lv_at hl 0 rfl) ?_
  refine lv_iconst (v := 5) hx hb dX1_init_116 li_5 ?_
  refine b_newq (t := 4) hx hb hown (hts _ q212) (hG.2 _ q213 rfl) hG hB23 hS hz rfl (by decide) (N := 5) (by decide) (Nat.le_of_ble_eq_true rfl) (Nat.le_of_ble_eq_true rfl) (Nat.le_of_ble_eq_true rfl) dX1_init_117 (fun H hB24 hS => ?_)
  refine lv_dup hx hb dX1_init_120 rfl ?_
  refine lv_iconst (v := 0) hx hb dX1_init_121 li_0 ?_
  refine b_ldcS (k := 14) (tx := "row") hx hb hown hW (by decide) dX1_init_122 ?_
  refine b_aastS (i := 5) hx hb hG hW hB24 hS rfl (Nat.le_of_ble_eq_true rfl) (show inb (0 : Int32) _ by decide) rfl dX1_init_124 (fun H locs hB25 hS => ?_)
  refine lv_dup hx hb dX1_init_125 rfl ?_
  refine lv_iconst (v := 1) hx hb dX1_init_126 li_1 ?_
  refine b_ldcS (k := 15) (tx := "run") hx hb hown hW (by decide) dX1_init_127 ?_
  refine b_aastS (i := 5) hx hb hG hW hB25 hS rfl (Nat.le_of_ble_eq_true rfl) (show inb (1 : Int32) _ by decide) rfl dX1_init_129 (fun H locs hB26 hS => ?_)
  refine lv_dup hx hb dX1_init_130 rfl ?_
  refine lv_iconst (v := 2) hx hb dX1_init_131 li_2 ?_
  refine b_ldcS (k := 16) (tx := "stop") hx hb hown hW (by decide) dX1_init_132 ?_
  refine b_aastS (i := 5) hx hb hG hW hB26 hS rfl (Nat.le_of_ble_eq_true rfl) (show inb (2 : Int32) _ by decide) rfl dX1_init_134 (fun H locs hB27 hS => ?_)
  refine lv_dup hx hb dX1_init_135 rfl ?_
  refine lv_iconst (v := 3) hx hb dX1_init_136 li_3 ?_
  refine b_ldcS (k := 17) (tx := "aim") hx hb hown hW (by decide) dX1_init_137 ?_
  refine b_aastS (i := 5) hx hb hG hW hB27 hS rfl (Nat.le_of_ble_eq_true rfl) (show inb (3 : Int32) _ by decide) rfl dX1_init_139 (fun H locs hB28 hS => ?_)
  refine lv_dup hx hb dX1_init_140 rfl ?_
  refine lv_iconst (v := 4) hx hb dX1_init_141 li_4 ?_
  refine b_ldcS (k := 18) (tx := "give") hx hb hown hW (by decide) dX1_init_142 ?_
  refine b_aastS (i := 5) hx hb hG hW hB28 hS rfl (Nat.le_of_ble_eq_true rfl) (show inb (4 : Int32) _ by decide) rfl dX1_init_144 (fun H locs hB29 hS => ?_)
  refine b_putFx (i := 0) (v := (some (n + 5))) (ty := (.array (.object "java/lang/String"))) hx hb hts hown hname hG hB29 hS gNX1_67_0 rfl rfl rfl (by decide +kernel) (Or.inr ⟨_, rfl⟩) dX1_init_145 (fun H locs hB30 hS => ?_)
  refine lv_aload_n hx hb dX1_init_148 rfl (lv_at hl 0 rfl) ?_
  refine lv_bipush (v := 10) hx hb dX1_init_149 lb_10 ?_
  refine b_newq (t := 4) hx hb hown (hts _ q212) (hG.2 _ q213 rfl) hG hB30 hS hz rfl (by decide) (N := 10) (by decide) (Nat.le_of_ble_eq_true rfl) (Nat.le_of_ble_eq_true rfl) (Nat.le_of_ble_eq_true rfl) dX1_init_151 (fun H hB31 hS => ?_)
  refine lv_dup hx hb dX1_init_154 rfl ?_
  refine lv_iconst (v := 0) hx hb dX1_init_155 li_0 ?_
  refine b_ldcS (k := 19) (tx := "at") hx hb hown hW (by decide) dX1_init_156 ?_
  refine b_aastS (i := 6) hx hb hG hW hB31 hS rfl (Nat.le_of_ble_eq_true rfl) (show inb (0 : Int32) _ by decide) rfl dX1_init_158 (fun H locs hB32 hS => ?_)
  refine lv_dup hx hb dX1_init_159 rfl ?_
  refine lv_iconst (v := 1) hx hb dX1_init_160 li_1 ?_
  refine b_ldcS (k := 20) (tx := "or") hx hb hown hW (by decide) dX1_init_161 ?_
  refine b_aastS (i := 6) hx hb hG hW hB32 hS rfl (Nat.le_of_ble_eq_true rfl) (show inb (1 : Int32) _ by decide) rfl dX1_init_163 (fun H locs hB33 hS => ?_)
  refine lv_dup hx hb dX1_init_164 rfl ?_
  refine lv_iconst (v := 2) hx hb dX1_init_165 li_2 ?_
  refine b_ldcS (k := 21) (tx := "and") hx hb hown hW (by decide) dX1_init_166 ?_
  refine b_aastS (i := 6) hx hb hG hW hB33 hS rfl (Nat.le_of_ble_eq_true rfl) (show inb (2 : Int32) _ by decide) rfl dX1_init_168 (fun H locs hB34 hS => ?_)
  refine lv_dup hx hb dX1_init_169 rfl ?_
  refine lv_iconst (v := 3) hx hb dX1_init_170 li_3 ?_
  refine b_ldcS (k := 22) (tx := "not") hx hb hown hW (by decide) dX1_init_171 ?_
  refine b_aastS (i := 6) hx hb hG hW hB34 hS rfl (Nat.le_of_ble_eq_true rfl) (show inb (3 : Int32) _ by decide) rfl dX1_init_173 (fun H locs hB35 hS => ?_)
  refine lv_dup hx hb dX1_init_174 rfl ?_
  refine lv_iconst (v := 4) hx hb dX1_init_175 li_4 ?_
  refine b_ldcS (k := 23) (tx := "out") hx hb hown hW (by decide) dX1_init_176 ?_
  refine b_aastS (i := 6) hx hb hG hW hB35 hS rfl (Nat.le_of_ble_eq_true rfl) (show inb (4 : Int32) _ by decide) rfl dX1_init_178 (fun H locs hB36 hS => ?_)
  refine lv_dup hx hb dX1_init_179 rfl ?_
  refine lv_iconst (v := 5) hx hb dX1_init_180 li_5 ?_
  refine b_ldcS (k := 24) (tx := "minute") hx hb hown hW (by decide) dX1_init_181 ?_
  refine b_aastS (i := 6) hx hb hG hW hB36 hS rfl (Nat.le_of_ble_eq_true rfl) (show inb (5 : Int32) _ by decide) rfl dX1_init_183 (fun H locs hB37 hS => ?_)
  refine lv_dup hx hb dX1_init_184 rfl ?_
  refine lv_bipush (v := 6) hx hb dX1_init_185 lb_6 ?_
  refine b_ldcS (k := 25) (tx := "thrown") hx hb hown hW (by decide) dX1_init_187 ?_
  refine b_aastS (i := 6) hx hb hG hW hB37 hS rfl (Nat.le_of_ble_eq_true rfl) (show inb (6 : Int32) _ by decide) rfl dX1_init_189 (fun H locs hB38 hS => ?_)
  refine lv_dup hx hb dX1_init_190 rfl ?_
  refine lv_bipush (v := 7) hx hb dX1_init_191 lb_7 ?_
  refine b_ldcS (k := 26) (tx := "lost") hx hb hown hW (by decide) dX1_init_193 ?_
  refine b_aastS (i := 6) hx hb hG hW hB38 hS rfl (Nat.le_of_ble_eq_true rfl) (show inb (7 : Int32) _ by decide) rfl dX1_init_195 (fun H locs hB39 hS => ?_)
  refine lv_dup hx hb dX1_init_196 rfl ?_
  refine lv_bipush (v := 8) hx hb dX1_init_197 lb_8 ?_
  refine b_ldcS (k := 27) (tx := "burns") hx hb hown hW (by decide) dX1_init_199 ?_
  refine b_aastS (i := 6) hx hb hG hW hB39 hS rfl (Nat.le_of_ble_eq_true rfl) (show inb (8 : Int32) _ by decide) rfl dX1_init_201 (fun H locs hB40 hS => ?_)
  refine lv_dup hx hb dX1_init_202 rfl ?_
  refine lv_bipush (v := 9) hx hb dX1_init_203 lb_9 ?_
  refine b_ldcS (k := 28) (tx := "water") hx hb hown hW (by decide) dX1_init_205 ?_
  refine b_aastS (i := 6) hx hb hG hW hB40 hS rfl (Nat.le_of_ble_eq_true rfl) (show inb (9 : Int32) _ by decide) rfl dX1_init_207 (fun H locs hB41 hS => ?_)
  refine b_putFx (i := 0) (v := (some (n + 6))) (ty := (.array (.object "java/lang/String"))) hx hb hts hown hname hG hB41 hS gNX1_90_0 rfl rfl rfl (by decide +kernel) (Or.inr ⟨_, rfl⟩) dX1_init_208 (fun H locs hB42 hS => ?_)
  refine lv_aload_n hx hb dX1_init_211 rfl (lv_at hl 0 rfl) ?_
  refine b_new (ci := 2) (T := TX3) (N := 3) hx hb hts in_X3 tyX3 tyX3_ok hown (hts _ q243) (hts _ q244) (hts _ q107) hG hB42 hS hz rfl (by decide) hdv_2 (Nat.le_of_ble_eq_true rfl) (Nat.le_of_ble_eq_true rfl) dX1_init_212 (fun H hB43 hS => ?_)
  refine lv_dup hx hb dX1_init_215 rfl ?_
  refine b_cIN (rm := (2, 32)) (As := []) (rest := [.ref (n + 7), .ref (n + 0)]) (mc := 6) (ms := 177) (ks2 := KS_i3) (li2 := LI_i3) (lj2 := LJ_i3) (lx2 := LX_i3 (n + 7)) (la2 := LA_i3) (lb2 := []) (lq2 := LQ_i3 G (n + 7)) ⟨hx, hb, hml, hown, hts⟩ hG hB43 hS rfl hB42.2.2.1 (fun K I J X A B Q hF => i3 l G K I J X A B Q (n + 7) hF) ⟨va_cnB 0 hts (lw_meth q247) rfl rfl rfl (hG.2 _ q245 rfl) (hts _ q107) (by decide +kernel) ⟨Nat.le_of_ble_eq_true rfl, Nat.le_of_ble_eq_true rfl⟩, rfl, hts _ q246⟩ rfl hl.1 (Nat.le_of_ble_eq_true rfl) dX1_init_216 ⟨Nat.le_of_ble_eq_true rfl, Nat.le_of_ble_eq_true rfl⟩ rfl rfl (io_i3 G (n + 7)) rfl rfl rfl rfl rfl rfl rfl (fun H locs hB44 hS => ?_)
  refine b_putFx (i := 0) (v := (some (n + 7))) (ty := (.object "PailRow$State")) hx hb hts hown hname hG hB44 hS gNX1_96_0 rfl rfl rfl (by decide +kernel) (Or.inl ⟨_, rfl⟩) dX1_init_219 (fun H locs hB45 hS => ?_)
  refine lv_aload_n hx hb dX1_init_222 rfl (lv_at hl 0 rfl) ?_
  refine b_new (ci := 5) (T := TX7) (N := 10) hx hb hts in_X7 tyX7 tyX7_ok hown (hts _ q378) (hts _ q379) (hts _ q111) hG hB45 hS hz rfl (by decide) hdv_5 (Nat.le_of_ble_eq_true rfl) (Nat.le_of_ble_eq_true rfl) dX1_init_223 (fun H hB46 hS => ?_)
  refine lv_dup hx hb dX1_init_226 rfl ?_
  refine lv_aload_n hx hb dX1_init_227 rfl (lv_at hl 0 rfl) ?_
  refine b_cI (rm := (2, 34)) (As := [.ref (n + 0)]) (rest := [.ref (n + 14), .ref (n + 0)]) (mc := 0) (ms := 0) (ks2 := KS_i7) (li2 := LI_i7) (lj2 := LJ_i7) (lx2 := LX_i7 (n + 14) (n + 0)) (la2 := LA_i7) (lb2 := []) (lq2 := LQ_i7 G (n + 14)) ⟨hx, hb, hml, hown, hts⟩ hG hB46 hS rfl hB45.2.2.1 (fun K I J X A B Q hF => i7 l G K I J X A B Q (n + 14) hF (n + 0)) ⟨callB_of 1 hts (lw_meth q382) rfl rfl rfl (hts _ q111) (hts _ q380) (by decide +kernel) ⟨Nat.le_of_ble_eq_true rfl, Nat.le_of_ble_eq_true rfl⟩, rfl, hts _ q381⟩ rfl hl.1 (Nat.le_of_ble_eq_true rfl) dX1_init_228 ⟨Nat.le_of_ble_eq_true rfl, Nat.le_of_ble_eq_true rfl⟩ rfl rfl (io_i7 G (n + 14) (n + 0)) rfl rfl rfl rfl rfl rfl rfl (fun H locs hB47 hS => ?_)
  refine b_putFx (i := 0) (v := (some (n + 14))) (ty := (.object "PailRow$YardReader")) hx hb hts hown hname hG hB47 hS gNX1_105_0 rfl rfl rfl (by decide +kernel) (Or.inl ⟨_, rfl⟩) dX1_init_231 (fun H locs hB48 hS => ?_)
  refine lv_aload_n hx hb dX1_init_234 rfl (lv_at hl 0 rfl) ?_
  refine b_new (ci := 6) (T := TX8) (N := 10) hx hb hts in_X8 tyX8 tyX8_ok hown (hts _ q436) (hts _ q437) (hts _ q112) hG hB48 hS hz rfl (by decide) hdv_6 (Nat.le_of_ble_eq_true rfl) (Nat.le_of_ble_eq_true rfl) dX1_init_235 (fun H hB49 hS => ?_)
  refine lv_dup hx hb dX1_init_238 rfl ?_
  refine lv_aload_n hx hb dX1_init_239 rfl (lv_at hl 0 rfl) ?_
  refine b_cI (rm := (2, 34)) (As := [.ref (n + 0)]) (rest := [.ref (n + 15), .ref (n + 0)]) (mc := 0) (ms := 0) (ks2 := KS_i8) (li2 := LI_i8) (lj2 := LJ_i8) (lx2 := LX_i8 (n + 15) (n + 0)) (la2 := LA_i8) (lb2 := []) (lq2 := LQ_i8 G (n + 15)) ⟨hx, hb, hml, hown, hts⟩ hG hB49 hS rfl hB48.2.2.1 (fun K I J X A B Q hF => i8 l G K I J X A B Q (n + 15) hF (n + 0)) ⟨callB_of 1 hts (lw_meth q440) rfl rfl rfl (hts _ q112) (hts _ q438) (by decide +kernel) ⟨Nat.le_of_ble_eq_true rfl, Nat.le_of_ble_eq_true rfl⟩, rfl, hts _ q439⟩ rfl hl.1 (Nat.le_of_ble_eq_true rfl) dX1_init_240 ⟨Nat.le_of_ble_eq_true rfl, Nat.le_of_ble_eq_true rfl⟩ rfl rfl (io_i8 G (n + 15) (n + 0)) rfl rfl rfl rfl rfl rfl rfl (fun H locs hB50 hS => ?_)
  refine b_putFx (i := 0) (v := (some (n + 15))) (ty := (.object "PailRow$PlanReader")) hx hb hts hown hname hG hB50 hS gNX1_112_0 rfl rfl rfl (by decide +kernel) (Or.inl ⟨_, rfl⟩) dX1_init_243 (fun H locs hB51 hS => ?_)
  refine lv_aload_n hx hb dX1_init_246 rfl (lv_at hl 0 rfl) ?_
  refine b_new (ci := 7) (T := TX10) (N := 19) hx hb hts in_X10 tyX10 tyX10_ok hown (hts _ q457) (hts _ q458) (hts _ q114) hG hB51 hS hz rfl (by decide) hdv_7 (Nat.le_of_ble_eq_true rfl) (Nat.le_of_ble_eq_true rfl) dX1_init_247 (fun H hB52 hS => ?_)
  refine lv_dup hx hb dX1_init_250 rfl ?_
  refine b_cIN (rm := (2, 32)) (As := []) (rest := [.ref (n + 16), .ref (n + 0)]) (mc := 21) (ms := 486) (ks2 := KS_i10) (li2 := LI_i10) (lj2 := LJ_i10) (lx2 := LX_i10 (n + 16)) (la2 := LA_i10) (lb2 := []) (lq2 := LQ_i10 G (n + 16)) ⟨hx, hb, hml, hown, hts⟩ hG hB52 hS rfl hB51.2.2.1 (fun K I J X A B Q hF => i10 l G K I J X A B Q (n + 16) hF) ⟨va_cnB 0 hts (lw_meth q461) rfl rfl rfl (hG.2 _ q459 rfl) (hts _ q114) (by decide +kernel) ⟨Nat.le_of_ble_eq_true rfl, Nat.le_of_ble_eq_true rfl⟩, rfl, hts _ q460⟩ rfl hl.1 (Nat.le_of_ble_eq_true rfl) dX1_init_251 ⟨Nat.le_of_ble_eq_true rfl, Nat.le_of_ble_eq_true rfl⟩ rfl rfl (io_i10 G (n + 16)) rfl rfl rfl rfl rfl rfl rfl (fun H locs hB53 hS => ?_)
  refine b_putFx (i := 0) (v := (some (n + 16))) (ty := (.object "PailRow$Row")) hx hb hts hown hname hG hB53 hS gNX1_119_0 rfl rfl rfl (by decide +kernel) (Or.inl ⟨_, rfl⟩) dX1_init_254 (fun H locs hB54 hS => ?_)
  refine lv_aload_n hx hb dX1_init_257 rfl (lv_at hl 0 rfl) ?_
  refine b_new (ci := 7) (T := TX10) (N := 19) hx hb hts in_X10 tyX10 tyX10_ok hown (hts _ q457) (hts _ q458) (hts _ q114) hG hB54 hS hz rfl (by decide) hdv_7 (Nat.le_of_ble_eq_true rfl) (Nat.le_of_ble_eq_true rfl) dX1_init_258 (fun H hB55 hS => ?_)
  refine lv_dup hx hb dX1_init_261 rfl ?_
  refine b_cIN (rm := (2, 32)) (As := []) (rest := [.ref (n + 38), .ref (n + 0)]) (mc := 21) (ms := 486) (ks2 := KS_i10) (li2 := LI_i10) (lj2 := LJ_i10) (lx2 := LX_i10 (n + 38)) (la2 := LA_i10) (lb2 := []) (lq2 := LQ_i10 G (n + 38)) ⟨hx, hb, hml, hown, hts⟩ hG hB55 hS rfl hB54.2.2.1 (fun K I J X A B Q hF => i10 l G K I J X A B Q (n + 38) hF) ⟨va_cnB 0 hts (lw_meth q461) rfl rfl rfl (hG.2 _ q459 rfl) (hts _ q114) (by decide +kernel) ⟨Nat.le_of_ble_eq_true rfl, Nat.le_of_ble_eq_true rfl⟩, rfl, hts _ q460⟩ rfl hl.1 (Nat.le_of_ble_eq_true rfl) dX1_init_262 ⟨Nat.le_of_ble_eq_true rfl, Nat.le_of_ble_eq_true rfl⟩ rfl rfl (io_i10 G (n + 38)) rfl rfl rfl rfl rfl rfl rfl (fun H locs hB56 hS => ?_)
  refine b_putFx (i := 0) (v := (some (n + 38))) (ty := (.object "PailRow$Row")) hx hb hts hown hname hG hB56 hS gNX1_122_0 rfl rfl rfl (by decide +kernel) (Or.inl ⟨_, rfl⟩) dX1_init_265 (fun H locs hB57 hS => ?_)
  refine lv_aload_n hx hb dX1_init_268 rfl (lv_at hl 0 rfl) ?_
  refine b_new (ci := 8) (T := TX11) (N := 10) hx hb hts in_X11 tyX11 tyX11_ok hown (hts _ q552) (hts _ q553) (hts _ q115) hG hB57 hS hz rfl (by decide) hdv_8 (Nat.le_of_ble_eq_true rfl) (Nat.le_of_ble_eq_true rfl) dX1_init_269 (fun H hB58 hS => ?_)
  refine lv_dup hx hb dX1_init_272 rfl ?_
  refine b_cIN (rm := (2, 32)) (As := []) (rest := [.ref (n + 60), .ref (n + 0)]) (mc := 4) (ms := 48) (ks2 := KS_i11) (li2 := LI_i11) (lj2 := LJ_i11) (lx2 := LX_i11 (n + 60)) (la2 := LA_i11) (lb2 := []) (lq2 := LQ_i11 G (n + 60)) ⟨hx, hb, hml, hown, hts⟩ hG hB58 hS rfl hB57.2.2.1 (fun K I J X A B Q hF => i11 l G K I J X A B Q (n + 60) hF) ⟨va_cnB 0 hts (lw_meth q556) rfl rfl rfl (hG.2 _ q554 rfl) (hts _ q115) (by decide +kernel) ⟨Nat.le_of_ble_eq_true rfl, Nat.le_of_ble_eq_true rfl⟩, rfl, hts _ q555⟩ rfl hl.1 (Nat.le_of_ble_eq_true rfl) dX1_init_273 ⟨Nat.le_of_ble_eq_true rfl, Nat.le_of_ble_eq_true rfl⟩ rfl rfl (io_i11 G (n + 60)) rfl rfl rfl rfl rfl rfl rfl (fun H locs hB59 hS => ?_)
  refine b_putFx (i := 0) (v := (some (n + 60))) (ty := (.object "PailRow$Runners")) hx hb hts hown hname hG hB59 hS gNX1_128_0 rfl rfl rfl (by decide +kernel) (Or.inl ⟨_, rfl⟩) dX1_init_276 (fun H locs hB60 hS => ?_)
  refine lv_aload_n hx hb dX1_init_279 rfl (lv_at hl 0 rfl) ?_
  refine b_new (ci := 8) (T := TX11) (N := 10) hx hb hts in_X11 tyX11 tyX11_ok hown (hts _ q552) (hts _ q553) (hts _ q115) hG hB60 hS hz rfl (by decide) hdv_8 (Nat.le_of_ble_eq_true rfl) (Nat.le_of_ble_eq_true rfl) dX1_init_280 (fun H hB61 hS => ?_)
  refine lv_dup hx hb dX1_init_283 rfl ?_
  refine b_cIN (rm := (2, 32)) (As := []) (rest := [.ref (n + 65), .ref (n + 0)]) (mc := 4) (ms := 48) (ks2 := KS_i11) (li2 := LI_i11) (lj2 := LJ_i11) (lx2 := LX_i11 (n + 65)) (la2 := LA_i11) (lb2 := []) (lq2 := LQ_i11 G (n + 65)) ⟨hx, hb, hml, hown, hts⟩ hG hB61 hS rfl hB60.2.2.1 (fun K I J X A B Q hF => i11 l G K I J X A B Q (n + 65) hF) ⟨va_cnB 0 hts (lw_meth q556) rfl rfl rfl (hG.2 _ q554 rfl) (hts _ q115) (by decide +kernel) ⟨Nat.le_of_ble_eq_true rfl, Nat.le_of_ble_eq_true rfl⟩, rfl, hts _ q555⟩ rfl hl.1 (Nat.le_of_ble_eq_true rfl) dX1_init_284 ⟨Nat.le_of_ble_eq_true rfl, Nat.le_of_ble_eq_true rfl⟩ rfl rfl (io_i11 G (n + 65)) rfl rfl rfl rfl rfl rfl rfl (fun H locs hB62 hS => ?_)
  refine b_putFx (i := 0) (v := (some (n + 65))) (ty := (.object "PailRow$Runners")) hx hb hts hown hname hG hB62 hS gNX1_132_0 rfl rfl rfl (by decide +kernel) (Or.inl ⟨_, rfl⟩) dX1_init_287 (fun H locs hB63 hS => ?_)
  refine lv_aload_n hx hb dX1_init_290 rfl (lv_at hl 0 rfl) ?_
  refine lv_bipush (v := 12) hx hb dX1_init_291 lb_12 ?_
  refine b_newa (atype := .int) (t := 0) hx hb (hts _ q344) hG hB63 hS hz (by decide) rfl (by intro C h; cases h) rfl (by decide) (N := 12) (by decide) (Nat.le_of_ble_eq_true rfl) (Nat.le_of_ble_eq_true rfl) (Nat.le_of_ble_eq_true rfl) dX1_init_293 (fun H hB64 hS => ?_)
  refine b_putFx (i := 0) (v := (some (n + 70))) (ty := (.array .int)) hx hb hts hown hname hG hB64 hS gNX1_135_0 rfl rfl rfl (by decide +kernel) (Or.inr ⟨_, rfl⟩) dX1_init_295 (fun H locs hB65 hS => ?_)
  refine lv_aload_n hx hb dX1_init_298 rfl (lv_at hl 0 rfl) ?_
  refine lv_bipush (v := 6) hx hb dX1_init_299 lb_6 ?_
  refine b_newa (atype := .int) (t := 0) hx hb (hts _ q344) hG hB65 hS hz (by decide) rfl (by intro C h; cases h) rfl (by decide) (N := 6) (by decide) (Nat.le_of_ble_eq_true rfl) (Nat.le_of_ble_eq_true rfl) (Nat.le_of_ble_eq_true rfl) dX1_init_301 (fun H hB66 hS => ?_)
  refine b_putFx (i := 0) (v := (some (n + 71))) (ty := (.array .int)) hx hb hts hown hname hG hB66 hS gNX1_139_0 rfl rfl rfl (by decide +kernel) (Or.inr ⟨_, rfl⟩) dX1_init_303 (fun H locs hB67 hS => ?_)
  refine lv_aload_n hx hb dX1_init_306 rfl (lv_at hl 0 rfl) ?_
  refine lv_bipush (v := 12) hx hb dX1_init_307 lb_12 ?_
  refine b_newa (atype := .int) (t := 0) hx hb (hts _ q344) hG hB67 hS hz (by decide) rfl (by intro C h; cases h) rfl (by decide) (N := 12) (by decide) (Nat.le_of_ble_eq_true rfl) (Nat.le_of_ble_eq_true rfl) (Nat.le_of_ble_eq_true rfl) dX1_init_309 (fun H hB68 hS => ?_)
  refine b_putFx (i := 0) (v := (some (n + 72))) (ty := (.array .int)) hx hb hts hown hname hG hB68 hS gNX1_142_0 rfl rfl rfl (by decide +kernel) (Or.inr ⟨_, rfl⟩) dX1_init_311 (fun H locs hB69 hS => ?_)
  refine lv_aload_n hx hb dX1_init_314 rfl (lv_at hl 0 rfl) ?_
  refine lv_bipush (v := 7) hx hb dX1_init_315 lb_7 ?_
  refine b_newa (atype := .int) (t := 0) hx hb (hts _ q344) hG hB69 hS hz (by decide) rfl (by intro C h; cases h) rfl (by decide) (N := 7) (by decide) (Nat.le_of_ble_eq_true rfl) (Nat.le_of_ble_eq_true rfl) (Nat.le_of_ble_eq_true rfl) dX1_init_317 (fun H hB70 hS => ?_)
  refine b_putFx (i := 0) (v := (some (n + 73))) (ty := (.array .int)) hx hb hts hown hname hG hB70 hS gNX1_145_0 rfl rfl rfl (by decide +kernel) (Or.inr ⟨_, rfl⟩) dX1_init_319 (fun H locs hB71 hS => ?_)
  refine lv_aload_n hx hb dX1_init_322 rfl (lv_at hl 0 rfl) ?_
  refine lv_bipush (v := 7) hx hb dX1_init_323 lb_7 ?_
  refine b_newa (atype := .int) (t := 0) hx hb (hts _ q344) hG hB71 hS hz (by decide) rfl (by intro C h; cases h) rfl (by decide) (N := 7) (by decide) (Nat.le_of_ble_eq_true rfl) (Nat.le_of_ble_eq_true rfl) (Nat.le_of_ble_eq_true rfl) dX1_init_325 (fun H hB72 hS => ?_)
  refine b_putFx (i := 0) (v := (some (n + 74))) (ty := (.array .int)) hx hb hts hown hname hG hB72 hS gNX1_148_0 rfl rfl rfl (by decide +kernel) (Or.inr ⟨_, rfl⟩) dX1_init_327 (fun H locs hB73 hS => ?_)
  refine lv_aload_n hx hb dX1_init_330 rfl (lv_at hl 0 rfl) ?_
  refine lv_bipush (v := 12) hx hb dX1_init_331 lb_12 ?_
  refine b_newa (atype := .int) (t := 0) hx hb (hts _ q344) hG hB73 hS hz (by decide) rfl (by intro C h; cases h) rfl (by decide) (N := 12) (by decide) (Nat.le_of_ble_eq_true rfl) (Nat.le_of_ble_eq_true rfl) (Nat.le_of_ble_eq_true rfl) dX1_init_333 (fun H hB74 hS => ?_)
  refine b_putFx (i := 0) (v := (some (n + 75))) (ty := (.array .int)) hx hb hts hown hname hG hB74 hS gNX1_151_0 rfl rfl rfl (by decide +kernel) (Or.inr ⟨_, rfl⟩) dX1_init_335 (fun H locs hB75 hS => ?_)
  refine lv_aload_n hx hb dX1_init_338 rfl (lv_at hl 0 rfl) ?_
  refine lv_bipush (v := 12) hx hb dX1_init_339 lb_12 ?_
  refine b_newa (atype := .int) (t := 0) hx hb (hts _ q344) hG hB75 hS hz (by decide) rfl (by intro C h; cases h) rfl (by decide) (N := 12) (by decide) (Nat.le_of_ble_eq_true rfl) (Nat.le_of_ble_eq_true rfl) (Nat.le_of_ble_eq_true rfl) dX1_init_341 (fun H hB76 hS => ?_)
  refine b_putFx (i := 0) (v := (some (n + 76))) (ty := (.array .int)) hx hb hts hown hname hG hB76 hS gNX1_154_0 rfl rfl rfl (by decide +kernel) (Or.inr ⟨_, rfl⟩) dX1_init_343 (fun H locs hB77 hS => ?_)
  refine lv_aload_n hx hb dX1_init_346 rfl (lv_at hl 0 rfl) ?_
  refine lv_bipush (v := 12) hx hb dX1_init_347 lb_12 ?_
  refine b_newa (atype := .int) (t := 0) hx hb (hts _ q344) hG hB77 hS hz (by decide) rfl (by intro C h; cases h) rfl (by decide) (N := 12) (by decide) (Nat.le_of_ble_eq_true rfl) (Nat.le_of_ble_eq_true rfl) (Nat.le_of_ble_eq_true rfl) dX1_init_349 (fun H hB78 hS => ?_)
  refine b_putFx (i := 0) (v := (some (n + 77))) (ty := (.array .int)) hx hb hts hown hname hG hB78 hS gNX1_157_0 rfl rfl rfl (by decide +kernel) (Or.inr ⟨_, rfl⟩) dX1_init_351 (fun H locs hB79 hS => ?_)
  refine lv_aload_n hx hb dX1_init_354 rfl (lv_at hl 0 rfl) ?_
  refine lv_bipush (v := 6) hx hb dX1_init_355 lb_6 ?_
  refine b_newa (atype := .int) (t := 0) hx hb (hts _ q344) hG hB79 hS hz (by decide) rfl (by intro C h; cases h) rfl (by decide) (N := 6) (by decide) (Nat.le_of_ble_eq_true rfl) (Nat.le_of_ble_eq_true rfl) (Nat.le_of_ble_eq_true rfl) dX1_init_357 (fun H hB80 hS => ?_)
  refine b_putFx (i := 0) (v := (some (n + 78))) (ty := (.array .int)) hx hb hts hown hname hG hB80 hS gNX1_160_0 rfl rfl rfl (by decide +kernel) (Or.inr ⟨_, rfl⟩) dX1_init_359 (fun H locs hB81 hS => ?_)
  refine lv_aload_n hx hb dX1_init_362 rfl (lv_at hl 0 rfl) ?_
  refine lv_bipush (v := 6) hx hb dX1_init_363 lb_6 ?_
  refine b_newa (atype := .int) (t := 0) hx hb (hts _ q344) hG hB81 hS hz (by decide) rfl (by intro C h; cases h) rfl (by decide) (N := 6) (by decide) (Nat.le_of_ble_eq_true rfl) (Nat.le_of_ble_eq_true rfl) (Nat.le_of_ble_eq_true rfl) dX1_init_365 (fun H hB82 hS => ?_)
  refine b_putFx (i := 0) (v := (some (n + 79))) (ty := (.array .int)) hx hb hts hown hname hG hB82 hS gNX1_163_0 rfl rfl rfl (by decide +kernel) (Or.inr ⟨_, rfl⟩) dX1_init_367 (fun H locs hB83 hS => ?_)
  refine lv_aload_n hx hb dX1_init_370 rfl (lv_at hl 0 rfl) ?_
  refine b_new (ci := 9) (T := TX12) (N := 6) hx hb hts in_X12 tyX12 tyX12_ok hown (hts _ q577) (hts _ q578) (hts _ q116) hG hB83 hS hz rfl (by decide) hdv_9 (Nat.le_of_ble_eq_true rfl) (Nat.le_of_ble_eq_true rfl) dX1_init_371 (fun H hB84 hS => ?_)
  refine lv_dup hx hb dX1_init_374 rfl ?_
  refine b_cIN (rm := (1, 12)) (As := []) (rest := [.ref (n + 80), .ref (n + 0)]) (mc := 4) (ms := 256) (ks2 := KS_i12) (li2 := LI_i12) (lj2 := LJ_i12) (lx2 := LX_i12 (n + 80)) (la2 := LA_i12) (lb2 := []) (lq2 := LQ_i12 G (n + 80)) ⟨hx, hb, hml, hown, hts⟩ hG hB84 hS rfl hB83.2.2.1 (fun K I J X A B Q hF => i12 l G K I J X A B Q (n + 80) hF) ⟨va_cnB 0 hts (lw_meth q581) rfl rfl rfl (hG.2 _ q579 rfl) (hts _ q116) (by decide +kernel) ⟨Nat.le_of_ble_eq_true rfl, Nat.le_of_ble_eq_true rfl⟩, rfl, hts _ q580⟩ rfl hl.1 (Nat.le_of_ble_eq_true rfl) dX1_init_375 ⟨Nat.le_of_ble_eq_true rfl, Nat.le_of_ble_eq_true rfl⟩ rfl rfl (io_i12 G (n + 80)) rfl rfl rfl rfl rfl rfl rfl (fun H locs hB85 hS => ?_)
  refine b_putFx (i := 0) (v := (some (n + 80))) (ty := (.object "PailRow$Barn")) hx hb hts hown hname hG hB85 hS gNX1_169_0 rfl rfl rfl (by decide +kernel) (Or.inl ⟨_, rfl⟩) dX1_init_378 (fun H locs hB86 hS => ?_)
  refine lv_aload_n hx hb dX1_init_381 rfl (lv_at hl 0 rfl) ?_
  refine b_new (ci := 9) (T := TX12) (N := 6) hx hb hts in_X12 tyX12 tyX12_ok hown (hts _ q577) (hts _ q578) (hts _ q116) hG hB86 hS hz rfl (by decide) hdv_9 (Nat.le_of_ble_eq_true rfl) (Nat.le_of_ble_eq_true rfl) dX1_init_382 (fun H hB87 hS => ?_)
  refine lv_dup hx hb dX1_init_385 rfl ?_
  refine b_cIN (rm := (1, 12)) (As := []) (rest := [.ref (n + 85), .ref (n + 0)]) (mc := 4) (ms := 256) (ks2 := KS_i12) (li2 := LI_i12) (lj2 := LJ_i12) (lx2 := LX_i12 (n + 85)) (la2 := LA_i12) (lb2 := []) (lq2 := LQ_i12 G (n + 85)) ⟨hx, hb, hml, hown, hts⟩ hG hB87 hS rfl hB86.2.2.1 (fun K I J X A B Q hF => i12 l G K I J X A B Q (n + 85) hF) ⟨va_cnB 0 hts (lw_meth q581) rfl rfl rfl (hG.2 _ q579 rfl) (hts _ q116) (by decide +kernel) ⟨Nat.le_of_ble_eq_true rfl, Nat.le_of_ble_eq_true rfl⟩, rfl, hts _ q580⟩ rfl hl.1 (Nat.le_of_ble_eq_true rfl) dX1_init_386 ⟨Nat.le_of_ble_eq_true rfl, Nat.le_of_ble_eq_true rfl⟩ rfl rfl (io_i12 G (n + 85)) rfl rfl rfl rfl rfl rfl rfl (fun H locs hB88 hS => ?_)
  refine b_putFx (i := 0) (v := (some (n + 85))) (ty := (.object "PailRow$Barn")) hx hb hts hown hname hG hB88 hS gNX1_173_0 rfl rfl rfl (by decide +kernel) (Or.inl ⟨_, rfl⟩) dX1_init_389 (fun H locs hB89 hS => ?_)
  refine lv_aload_n hx hb dX1_init_392 rfl (lv_at hl 0 rfl) ?_
  refine lv_bipush (v := 21) hx hb dX1_init_393 lb_21 ?_
  refine b_newq (t := 2) hx hb hown (hts _ q577) (hG.2 _ q607 rfl) hG hB89 hS hz rfl (by decide) (N := 21) (by decide) (Nat.le_of_ble_eq_true rfl) (Nat.le_of_ble_eq_true rfl) (Nat.le_of_ble_eq_true rfl) dX1_init_395 (fun H hB90 hS => ?_)
  refine b_putFx (i := 0) (v := (some (n + 90))) (ty := (.array (.object "PailRow$Barn"))) hx hb hts hown hname hG hB90 hS gNX1_176_0 rfl rfl rfl (by decide +kernel) (Or.inr ⟨_, rfl⟩) dX1_init_398 (fun H locs hB91 hS => ?_)
  refine lv_aload_n hx hb dX1_init_401 rfl (lv_at hl 0 rfl) ?_
  refine lv_iconst (v := 4) hx hb dX1_init_402 li_4 ?_
  refine b_newq (t := 2) hx hb hown (hts _ q577) (hG.2 _ q607 rfl) hG hB91 hS hz rfl (by decide) (N := 4) (by decide) (Nat.le_of_ble_eq_true rfl) (Nat.le_of_ble_eq_true rfl) (Nat.le_of_ble_eq_true rfl) dX1_init_403 (fun H hB92 hS => ?_)
  refine lv_dup hx hb dX1_init_406 rfl ?_
  refine lv_iconst (v := 0) hx hb dX1_init_407 li_0 ?_
  refine b_new (ci := 9) (T := TX12) (N := 6) hx hb hts in_X12 tyX12 tyX12_ok hown (hts _ q577) (hts _ q578) (hts _ q116) hG hB92 hS hz rfl (by decide) hdv_9 (Nat.le_of_ble_eq_true rfl) (Nat.le_of_ble_eq_true rfl) dX1_init_408 (fun H hB93 hS => ?_)
  refine lv_dup hx hb dX1_init_411 rfl ?_
  refine b_cIN (rm := (1, 12)) (As := []) (rest := [.ref (n + 92), .int (0 : Int32), .ref (n + 91), .ref (n + 91), .ref (n + 0)]) (mc := 4) (ms := 256) (ks2 := KS_i12) (li2 := LI_i12) (lj2 := LJ_i12) (lx2 := LX_i12 (n + 92)) (la2 := LA_i12) (lb2 := []) (lq2 := LQ_i12 G (n + 92)) ⟨hx, hb, hml, hown, hts⟩ hG hB93 hS rfl hB92.2.2.1 (fun K I J X A B Q hF => i12 l G K I J X A B Q (n + 92) hF) ⟨va_cnB 0 hts (lw_meth q581) rfl rfl rfl (hG.2 _ q579 rfl) (hts _ q116) (by decide +kernel) ⟨Nat.le_of_ble_eq_true rfl, Nat.le_of_ble_eq_true rfl⟩, rfl, hts _ q580⟩ rfl hl.1 (Nat.le_of_ble_eq_true rfl) dX1_init_412 ⟨Nat.le_of_ble_eq_true rfl, Nat.le_of_ble_eq_true rfl⟩ rfl rfl (io_i12 G (n + 92)) rfl rfl rfl rfl rfl rfl rfl (fun H locs hB94 hS => ?_)
  refine b_aast (i := 91) (t := 2) (v := 92) (ci := 9) hx hb hG hB94 hS rfl rfl rfl rfl (show inb (0 : Int32) _ by decide) rfl dX1_init_415 (fun H locs hB95 hS => ?_)
  refine lv_dup hx hb dX1_init_416 rfl ?_
  refine lv_iconst (v := 1) hx hb dX1_init_417 li_1 ?_
  refine b_new (ci := 9) (T := TX12) (N := 6) hx hb hts in_X12 tyX12 tyX12_ok hown (hts _ q577) (hts _ q578) (hts _ q116) hG hB95 hS hz rfl (by decide) hdv_9 (Nat.le_of_ble_eq_true rfl) (Nat.le_of_ble_eq_true rfl) dX1_init_418 (fun H hB96 hS => ?_)
  refine lv_dup hx hb dX1_init_421 rfl ?_
  refine b_cIN (rm := (1, 12)) (As := []) (rest := [.ref (n + 97), .int (1 : Int32), .ref (n + 91), .ref (n + 91), .ref (n + 0)]) (mc := 4) (ms := 256) (ks2 := KS_i12) (li2 := LI_i12) (lj2 := LJ_i12) (lx2 := LX_i12 (n + 97)) (la2 := LA_i12) (lb2 := []) (lq2 := LQ_i12 G (n + 97)) ⟨hx, hb, hml, hown, hts⟩ hG hB96 hS rfl hB95.2.2.1 (fun K I J X A B Q hF => i12 l G K I J X A B Q (n + 97) hF) ⟨va_cnB 0 hts (lw_meth q581) rfl rfl rfl (hG.2 _ q579 rfl) (hts _ q116) (by decide +kernel) ⟨Nat.le_of_ble_eq_true rfl, Nat.le_of_ble_eq_true rfl⟩, rfl, hts _ q580⟩ rfl hl.1 (Nat.le_of_ble_eq_true rfl) dX1_init_422 ⟨Nat.le_of_ble_eq_true rfl, Nat.le_of_ble_eq_true rfl⟩ rfl rfl (io_i12 G (n + 97)) rfl rfl rfl rfl rfl rfl rfl (fun H locs hB97 hS => ?_)
  refine b_aast (i := 91) (t := 2) (v := 97) (ci := 9) hx hb hG hB97 hS rfl rfl rfl rfl (show inb (1 : Int32) _ by decide) rfl dX1_init_425 (fun H locs hB98 hS => ?_)
  refine lv_dup hx hb dX1_init_426 rfl ?_
  refine lv_iconst (v := 2) hx hb dX1_init_427 li_2 ?_
  refine b_new (ci := 9) (T := TX12) (N := 6) hx hb hts in_X12 tyX12 tyX12_ok hown (hts _ q577) (hts _ q578) (hts _ q116) hG hB98 hS hz rfl (by decide) hdv_9 (Nat.le_of_ble_eq_true rfl) (Nat.le_of_ble_eq_true rfl) dX1_init_428 (fun H hB99 hS => ?_)
  refine lv_dup hx hb dX1_init_431 rfl ?_
  refine b_cIN (rm := (1, 12)) (As := []) (rest := [.ref (n + 102), .int (2 : Int32), .ref (n + 91), .ref (n + 91), .ref (n + 0)]) (mc := 4) (ms := 256) (ks2 := KS_i12) (li2 := LI_i12) (lj2 := LJ_i12) (lx2 := LX_i12 (n + 102)) (la2 := LA_i12) (lb2 := []) (lq2 := LQ_i12 G (n + 102)) ⟨hx, hb, hml, hown, hts⟩ hG hB99 hS rfl hB98.2.2.1 (fun K I J X A B Q hF => i12 l G K I J X A B Q (n + 102) hF) ⟨va_cnB 0 hts (lw_meth q581) rfl rfl rfl (hG.2 _ q579 rfl) (hts _ q116) (by decide +kernel) ⟨Nat.le_of_ble_eq_true rfl, Nat.le_of_ble_eq_true rfl⟩, rfl, hts _ q580⟩ rfl hl.1 (Nat.le_of_ble_eq_true rfl) dX1_init_432 ⟨Nat.le_of_ble_eq_true rfl, Nat.le_of_ble_eq_true rfl⟩ rfl rfl (io_i12 G (n + 102)) rfl rfl rfl rfl rfl rfl rfl (fun H locs hB100 hS => ?_)
  refine b_aast (i := 91) (t := 2) (v := 102) (ci := 9) hx hb hG hB100 hS rfl rfl rfl rfl (show inb (2 : Int32) _ by decide) rfl dX1_init_435 (fun H locs hB101 hS => ?_)
  refine lv_dup hx hb dX1_init_436 rfl ?_
  refine lv_iconst (v := 3) hx hb dX1_init_437 li_3 ?_
  refine b_new (ci := 9) (T := TX12) (N := 6) hx hb hts in_X12 tyX12 tyX12_ok hown (hts _ q577) (hts _ q578) (hts _ q116) hG hB101 hS hz rfl (by decide) hdv_9 (Nat.le_of_ble_eq_true rfl) (Nat.le_of_ble_eq_true rfl) dX1_init_438 (fun H hB102 hS => ?_)
  refine lv_dup hx hb dX1_init_441 rfl ?_
  refine b_cIN (rm := (1, 12)) (As := []) (rest := [.ref (n + 107), .int (3 : Int32), .ref (n + 91), .ref (n + 91), .ref (n + 0)]) (mc := 4) (ms := 256) (ks2 := KS_i12) (li2 := LI_i12) (lj2 := LJ_i12) (lx2 := LX_i12 (n + 107)) (la2 := LA_i12) (lb2 := []) (lq2 := LQ_i12 G (n + 107)) ⟨hx, hb, hml, hown, hts⟩ hG hB102 hS rfl hB101.2.2.1 (fun K I J X A B Q hF => i12 l G K I J X A B Q (n + 107) hF) ⟨va_cnB 0 hts (lw_meth q581) rfl rfl rfl (hG.2 _ q579 rfl) (hts _ q116) (by decide +kernel) ⟨Nat.le_of_ble_eq_true rfl, Nat.le_of_ble_eq_true rfl⟩, rfl, hts _ q580⟩ rfl hl.1 (Nat.le_of_ble_eq_true rfl) dX1_init_442 ⟨Nat.le_of_ble_eq_true rfl, Nat.le_of_ble_eq_true rfl⟩ rfl rfl (io_i12 G (n + 107)) rfl rfl rfl rfl rfl rfl rfl (fun H locs hB103 hS => ?_)
  refine b_aast (i := 91) (t := 2) (v := 107) (ci := 9) hx hb hG hB103 hS rfl rfl rfl rfl (show inb (3 : Int32) _ by decide) rfl dX1_init_445 (fun H locs hB104 hS => ?_)
  refine b_putFx (i := 0) (v := (some (n + 91))) (ty := (.array (.object "PailRow$Barn"))) hx hb hts hown hname hG hB104 hS gNX1_180_0 rfl rfl rfl (by decide +kernel) (Or.inr ⟨_, rfl⟩) dX1_init_446 (fun H locs hB105 hS => ?_)
  refine lv_aload_n hx hb dX1_init_449 rfl (lv_at hl 0 rfl) ?_
  refine lv_iconst (v := 3) hx hb dX1_init_450 li_3 ?_
  refine b_newa (atype := .int) (t := 0) hx hb (hts _ q344) hG hB105 hS hz (by decide) rfl (by intro C h; cases h) rfl (by decide) (N := 3) (by decide) (Nat.le_of_ble_eq_true rfl) (Nat.le_of_ble_eq_true rfl) (Nat.le_of_ble_eq_true rfl) dX1_init_451 (fun H hB106 hS => ?_)
  refine b_putFx (i := 0) (v := (some (n + 112))) (ty := (.array .int)) hx hb hts hown hname hG hB106 hS gNX1_183_0 rfl rfl rfl (by decide +kernel) (Or.inr ⟨_, rfl⟩) dX1_init_453 (fun H locs hB107 hS => ?_)
  refine lv_aload_n hx hb dX1_init_456 rfl (lv_at hl 0 rfl) ?_
  refine lv_iconst (v := 3) hx hb dX1_init_457 li_3 ?_
  refine b_newa (atype := .int) (t := 0) hx hb (hts _ q344) hG hB107 hS hz (by decide) rfl (by intro C h; cases h) rfl (by decide) (N := 3) (by decide) (Nat.le_of_ble_eq_true rfl) (Nat.le_of_ble_eq_true rfl) (Nat.le_of_ble_eq_true rfl) dX1_init_458 (fun H hB108 hS => ?_)
  refine b_putFx (i := 0) (v := (some (n + 113))) (ty := (.array .int)) hx hb hts hown hname hG hB108 hS gNX1_186_0 rfl rfl rfl (by decide +kernel) (Or.inr ⟨_, rfl⟩) dX1_init_460 (fun H locs hB109 hS => ?_)
  refine lv_aload_n hx hb dX1_init_463 rfl (lv_at hl 0 rfl) ?_
  refine b_new (ci := 9) (T := TX12) (N := 6) hx hb hts in_X12 tyX12 tyX12_ok hown (hts _ q577) (hts _ q578) (hts _ q116) hG hB109 hS hz rfl (by decide) hdv_9 (Nat.le_of_ble_eq_true rfl) (Nat.le_of_ble_eq_true rfl) dX1_init_464 (fun H hB110 hS => ?_)
  refine lv_dup hx hb dX1_init_467 rfl ?_
  refine b_cIN (rm := (1, 12)) (As := []) (rest := [.ref (n + 114), .ref (n + 0)]) (mc := 4) (ms := 256) (ks2 := KS_i12) (li2 := LI_i12) (lj2 := LJ_i12) (lx2 := LX_i12 (n + 114)) (la2 := LA_i12) (lb2 := []) (lq2 := LQ_i12 G (n + 114)) ⟨hx, hb, hml, hown, hts⟩ hG hB110 hS rfl hB109.2.2.1 (fun K I J X A B Q hF => i12 l G K I J X A B Q (n + 114) hF) ⟨va_cnB 0 hts (lw_meth q581) rfl rfl rfl (hG.2 _ q579 rfl) (hts _ q116) (by decide +kernel) ⟨Nat.le_of_ble_eq_true rfl, Nat.le_of_ble_eq_true rfl⟩, rfl, hts _ q580⟩ rfl hl.1 (Nat.le_of_ble_eq_true rfl) dX1_init_468 ⟨Nat.le_of_ble_eq_true rfl, Nat.le_of_ble_eq_true rfl⟩ rfl rfl (io_i12 G (n + 114)) rfl rfl rfl rfl rfl rfl rfl (fun H locs hB111 hS => ?_)
  refine b_putFx (i := 0) (v := (some (n + 114))) (ty := (.object "PailRow$Barn")) hx hb hts hown hname hG hB111 hS gNX1_189_0 rfl rfl rfl (by decide +kernel) (Or.inl ⟨_, rfl⟩) dX1_init_471 (fun H locs hB112 hS => ?_)
  refine lv_aload_n hx hb dX1_init_474 rfl (lv_at hl 0 rfl) ?_
  refine lv_bipush (v := 60) hx hb dX1_init_475 lb_60 ?_
  refine b_newa (atype := .int) (t := 0) hx hb (hts _ q344) hG hB112 hS hz (by decide) rfl (by intro C h; cases h) rfl (by decide) (N := 60) (by decide) (Nat.le_of_ble_eq_true rfl) (Nat.le_of_ble_eq_true rfl) (Nat.le_of_ble_eq_true rfl) dX1_init_477 (fun H hB113 hS => ?_)
  refine b_putFx (i := 0) (v := (some (n + 119))) (ty := (.array .int)) hx hb hts hown hname hG hB113 hS gNX1_192_0 rfl rfl rfl (by decide +kernel) (Or.inr ⟨_, rfl⟩) dX1_init_479 (fun H locs hB114 hS => ?_)
  refine lv_aload_n hx hb dX1_init_482 rfl (lv_at hl 0 rfl) ?_
  refine lv_bipush (v := 60) hx hb dX1_init_483 lb_60 ?_
  refine b_newa (atype := .int) (t := 0) hx hb (hts _ q344) hG hB114 hS hz (by decide) rfl (by intro C h; cases h) rfl (by decide) (N := 60) (by decide) (Nat.le_of_ble_eq_true rfl) (Nat.le_of_ble_eq_true rfl) (Nat.le_of_ble_eq_true rfl) dX1_init_485 (fun H hB115 hS => ?_)
  refine b_putFx (i := 0) (v := (some (n + 120))) (ty := (.array .int)) hx hb hts hown hname hG hB115 hS gNX1_195_0 rfl rfl rfl (by decide +kernel) (Or.inr ⟨_, rfl⟩) dX1_init_487 (fun H locs hB116 hS => ?_)
  refine lv_aload_n hx hb dX1_init_490 rfl (lv_at hl 0 rfl) ?_
  refine lv_bipush (v := 60) hx hb dX1_init_491 lb_60 ?_
  refine b_newa (atype := .int) (t := 0) hx hb (hts _ q344) hG hB116 hS hz (by decide) rfl (by intro C h; cases h) rfl (by decide) (N := 60) (by decide) (Nat.le_of_ble_eq_true rfl) (Nat.le_of_ble_eq_true rfl) (Nat.le_of_ble_eq_true rfl) dX1_init_493 (fun H hB117 hS => ?_)
  refine b_putFx (i := 0) (v := (some (n + 121))) (ty := (.array .int)) hx hb hts hown hname hG hB117 hS gNX1_197_0 rfl rfl rfl (by decide +kernel) (Or.inr ⟨_, rfl⟩) dX1_init_495 (fun H locs hB118 hS => ?_)
  refine lv_aload_n hx hb dX1_init_498 rfl (lv_at hl 0 rfl) ?_
  refine lv_bipush (v := 60) hx hb dX1_init_499 lb_60 ?_
  refine b_newa (atype := .int) (t := 0) hx hb (hts _ q344) hG hB118 hS hz (by decide) rfl (by intro C h; cases h) rfl (by decide) (N := 60) (by decide) (Nat.le_of_ble_eq_true rfl) (Nat.le_of_ble_eq_true rfl) (Nat.le_of_ble_eq_true rfl) dX1_init_501 (fun H hB119 hS => ?_)
  refine b_putFx (i := 0) (v := (some (n + 122))) (ty := (.array .int)) hx hb hts hown hname hG hB119 hS gNX1_200_0 rfl rfl rfl (by decide +kernel) (Or.inr ⟨_, rfl⟩) dX1_init_503 (fun H locs hB120 hS => ?_)
  refine lv_aload_n hx hb dX1_init_506 rfl (lv_at hl 0 rfl) ?_
  refine b_new (ci := 10) (T := TX13) (N := 11) hx hb hts in_X13 tyX13 tyX13_ok hown (hts _ q608) (hts _ q609) (hts _ q117) hG hB120 hS hz rfl (by decide) hdv_10 (Nat.le_of_ble_eq_true rfl) (Nat.le_of_ble_eq_true rfl) dX1_init_507 (fun H hB121 hS => ?_)
  refine lv_dup hx hb dX1_init_510 rfl ?_
  refine lv_aload_n hx hb dX1_init_511 rfl (lv_at hl 0 rfl) ?_
  refine b_cIX (rm := (2, 34)) (As := [.ref (n + 0)]) (rest := [.ref (n + 123), .ref (n + 0)]) (mc := 1) (ms := 5) (ks2 := KS_i13) (li2 := LI_i13) (lj2 := LJ_i13) (lx2 := LX_i13 (n + 123) (n + 0)) (la2 := LA_i13) (lb2 := []) (lq2 := LQ_i13 G (n + 123)) ⟨hx, hb, hml, hown, hts⟩ hG hW hB121 hS rfl hB120.2.2.1 (fun K I J X A B Q hF => i13 l G K I J X A B Q (n + 123) hF (n + 0)) ⟨callB_of 1 hts (lw_meth q612) rfl rfl rfl (hts _ q117) (hts _ q610) (by decide +kernel) ⟨Nat.le_of_ble_eq_true rfl, Nat.le_of_ble_eq_true rfl⟩, rfl, hts _ q611⟩ rfl hl.1 (Nat.le_of_ble_eq_true rfl) dX1_init_512 ⟨Nat.le_of_ble_eq_true rfl, Nat.le_of_ble_eq_true rfl⟩ rfl rfl (io_i13 G (n + 123) (n + 0)) rfl rfl rfl rfl rfl rfl rfl (fun H locs hB122 hS => ?_)
  refine b_putFx (i := 0) (v := (some (n + 123))) (ty := (.object "PailRow$SentenceReader")) hx hb hts hown hname hG hB122 hS gNX1_206_0 rfl rfl rfl (by decide +kernel) (Or.inl ⟨_, rfl⟩) dX1_init_515 (fun H locs hB123 hS => ?_)
  refine lv_aload_n hx hb dX1_init_518 rfl (lv_at hl 0 rfl) ?_
  refine lv_iconst (v := 2) hx hb dX1_init_519 li_2 ?_
  refine b_newq (t := 3) hx hb hown (hts _ q243) (hG.2 _ q639 rfl) hG hB123 hS hz rfl (by decide) (N := 2) (by decide) (Nat.le_of_ble_eq_true rfl) (Nat.le_of_ble_eq_true rfl) (Nat.le_of_ble_eq_true rfl) dX1_init_520 (fun H hB124 hS => ?_)
  refine b_putFx (i := 0) (v := (some (n + 125))) (ty := (.array (.object "PailRow$State"))) hx hb hts hown hname hG hB124 hS gNX1_210_0 rfl rfl rfl (by decide +kernel) (Or.inr ⟨_, rfl⟩) dX1_init_523 (fun H locs hB125 hS => ?_)
  have hB : BR G K I J X A B Q n 126 KS_i1 LI_i1 LJ_i1 (LX_i1 n) LA_i1 [] (LQ_i1 G n) _ := hB125
  exact x_vret hx hb hr hlocks hG hB.2.2.2 hS rfl dX1_init_526
