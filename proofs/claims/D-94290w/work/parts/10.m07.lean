/-! the walks of PailRowModel (printed by tools) 7 -/
set_option maxRecDepth 100000
noncomputable def f14_cost_j43 (rr1 : Int32 × (Nat → Int32)) (j43_i_thrown : Int32) (j43_i_taped : Int32) (j43_i_teamMany : Int32) (j43_i_teamKind : Int32) (j43_i_well : Int32) (j43_i_tick : Int32) (j43_i_empty : Int32) (j43_i_away : Int32) (j43_i_litresThrown : Int32) (j43_i_spilt : Int32) (j43_i_pailsThrown : Int32) (j43_i_drawn : Int32) (j43_a_team : Nat → Int32) (j43_a_rest : Nat → Int32) (j43_a_load : Nat → Int32) (j43_a_done : Nat → Int32) (j43_a_queue : Nat → Int32) (j43_a_waits : Nat → Int32) (j43_a_most : Nat → Int32) (j43_a_comes : Nat → Int32) (j43_a_state : Nat → Int32) : Option (Int32 × Int32 × Int32 × Int32 × Int32 × Int32 × Int32 × Int32 × Int32 × Int32 × Int32 × Int32 × Int32 × Int32 × (Nat → Int32) × (Nat → Int32) × (Nat → Int32) × (Nat → Int32) × (Nat → Int32) × (Nat → Int32) × (Nat → Int32) × (Nat → Int32) × (Nat → Int32) × (Nat → Int32)) :=
  (f14_refuse j43_i_thrown).bind fun rr3 =>
  some (rr3.1, rr3.2, j43_i_taped, rr1.1, j43_i_teamMany, j43_i_teamKind, j43_i_well, j43_i_tick, j43_i_empty, j43_i_away, j43_i_litresThrown, j43_i_spilt, j43_i_pailsThrown, j43_i_drawn, rr1.2, j43_a_team, j43_a_rest, j43_a_load, j43_a_done, j43_a_queue, j43_a_waits, j43_a_most, j43_a_comes, j43_a_state)

noncomputable def f14_cost_e10_0 (p1 : Int32) (p2 : Int32) (i_taped : Int32) (i_teamMany : Int32) (i_teamKind : Int32) (i_well : Int32) (i_tick : Int32) (i_empty : Int32) (i_away : Int32) (i_litresThrown : Int32) (i_spilt : Int32) (i_pailsThrown : Int32) (i_drawn : Int32) (a_rest : Nat → Int32) (a_load : Nat → Int32) (a_done : Nat → Int32) (a_queue : Nat → Int32) (a_waits : Nat → Int32) (a_most : Nat → Int32) (a_comes : Nat → Int32) (a_state : Nat → Int32) (rr1 : Int32 × (Nat → Int32)) (x10_0 : (Nat → Int32)) : Option (Int32 × Int32 × Int32 × Int32 × Int32 × Int32 × Int32 × Int32 × Int32 × Int32 × Int32 × Int32 × Int32 × Int32 × (Nat → Int32) × (Nat → Int32) × (Nat → Int32) × (Nat → Int32) × (Nat → Int32) × (Nat → Int32) × (Nat → Int32) × (Nat → Int32) × (Nat → Int32) × (Nat → Int32)) :=
  (f14_take i_taped).bind fun rr11 =>
  gd (inb (5 : Int32) 800) <|
  lt (rr1.2 (5 : Int32).toNatClampNeg) fun v13 =>
  (f14_throwsIn (1 : Int32) i_taped v13 p2 i_teamMany i_teamKind i_well i_tick i_empty i_away i_litresThrown i_spilt i_pailsThrown i_drawn rr1.2 x10_0 a_rest a_load a_done a_queue a_waits a_most a_comes a_state).bind fun rr14 =>
  gd (inb (5 : Int32) 800) <|
  lt (rr1.2 (5 : Int32).toNatClampNeg) fun v16 =>
  lt ((60 : Int32) * p1) fun v17 =>
  (f14_throwsIn (2 : Int32) i_taped v16 v17 rr14.2.1 rr14.2.2.1 rr14.2.2.2.1 rr14.2.2.2.2.1 rr14.2.2.2.2.2.1 rr14.2.2.2.2.2.2.1 rr14.2.2.2.2.2.2.2.1 rr14.2.2.2.2.2.2.2.2.1 rr14.2.2.2.2.2.2.2.2.2.1 rr14.2.2.2.2.2.2.2.2.2.2.1 rr1.2 x10_0 rr14.2.2.2.2.2.2.2.2.2.2.2.1 rr14.2.2.2.2.2.2.2.2.2.2.2.2.1 rr14.2.2.2.2.2.2.2.2.2.2.2.2.2.1 rr14.2.2.2.2.2.2.2.2.2.2.2.2.2.2.1 rr14.2.2.2.2.2.2.2.2.2.2.2.2.2.2.2.1 rr14.2.2.2.2.2.2.2.2.2.2.2.2.2.2.2.2.1 rr14.2.2.2.2.2.2.2.2.2.2.2.2.2.2.2.2.2.1 rr14.2.2.2.2.2.2.2.2.2.2.2.2.2.2.2.2.2.2).bind fun rr18 =>
  lt (rr14.1 - rr18.1) fun v19 =>
  gd (inb (5 : Int32) 800) <|
  lt (rr1.2 (5 : Int32).toNatClampNeg) fun v21 =>
  lt (v21 - rr18.2.2.2.2.2.2.2.2.2.2.1) fun v22 =>
  lt ((60 : Int32) * p1) fun v23 =>
  lt (p2 - v23) fun v24 =>
  (f14_throwsIn (1 : Int32) i_taped v22 v24 rr18.2.1 rr18.2.2.1 rr18.2.2.2.1 rr18.2.2.2.2.1 rr18.2.2.2.2.2.1 rr18.2.2.2.2.2.2.1 rr18.2.2.2.2.2.2.2.1 rr18.2.2.2.2.2.2.2.2.1 rr18.2.2.2.2.2.2.2.2.2.1 rr18.2.2.2.2.2.2.2.2.2.2.1 rr1.2 x10_0 rr18.2.2.2.2.2.2.2.2.2.2.2.1 rr18.2.2.2.2.2.2.2.2.2.2.2.2.1 rr18.2.2.2.2.2.2.2.2.2.2.2.2.2.1 rr18.2.2.2.2.2.2.2.2.2.2.2.2.2.2.1 rr18.2.2.2.2.2.2.2.2.2.2.2.2.2.2.2.1 rr18.2.2.2.2.2.2.2.2.2.2.2.2.2.2.2.2.1 rr18.2.2.2.2.2.2.2.2.2.2.2.2.2.2.2.2.2.1 rr18.2.2.2.2.2.2.2.2.2.2.2.2.2.2.2.2.2.2).bind fun rr25 =>
  lt (v19 - rr25.1) fun v26 =>
  some (v26, (0 : Int32), rr11.2, rr1.1, rr25.2.1, rr25.2.2.1, rr25.2.2.2.1, rr25.2.2.2.2.1, rr25.2.2.2.2.2.1, rr25.2.2.2.2.2.2.1, rr25.2.2.2.2.2.2.2.1, rr25.2.2.2.2.2.2.2.2.1, rr25.2.2.2.2.2.2.2.2.2.1, rr25.2.2.2.2.2.2.2.2.2.2.1, rr1.2, x10_0, rr25.2.2.2.2.2.2.2.2.2.2.2.1, rr25.2.2.2.2.2.2.2.2.2.2.2.2.1, rr25.2.2.2.2.2.2.2.2.2.2.2.2.2.1, rr25.2.2.2.2.2.2.2.2.2.2.2.2.2.2.1, rr25.2.2.2.2.2.2.2.2.2.2.2.2.2.2.2.1, rr25.2.2.2.2.2.2.2.2.2.2.2.2.2.2.2.2.1, rr25.2.2.2.2.2.2.2.2.2.2.2.2.2.2.2.2.2.1, rr25.2.2.2.2.2.2.2.2.2.2.2.2.2.2.2.2.2.2)

noncomputable def f14_cost_e10_1 (i_thrown : Int32) (i_taped : Int32) (i_teamMany : Int32) (i_teamKind : Int32) (i_well : Int32) (i_tick : Int32) (i_empty : Int32) (i_away : Int32) (i_litresThrown : Int32) (i_spilt : Int32) (i_pailsThrown : Int32) (i_drawn : Int32) (a_rest : Nat → Int32) (a_load : Nat → Int32) (a_done : Nat → Int32) (a_queue : Nat → Int32) (a_waits : Nat → Int32) (a_most : Nat → Int32) (a_comes : Nat → Int32) (a_state : Nat → Int32) (rr1 : Int32 × (Nat → Int32)) (x10_1 : (Nat → Int32)) : Option (Int32 × Int32 × Int32 × Int32 × Int32 × Int32 × Int32 × Int32 × Int32 × Int32 × Int32 × Int32 × Int32 × Int32 × (Nat → Int32) × (Nat → Int32) × (Nat → Int32) × (Nat → Int32) × (Nat → Int32) × (Nat → Int32) × (Nat → Int32) × (Nat → Int32) × (Nat → Int32) × (Nat → Int32)) :=
  (f14_refuse i_thrown).bind fun rr27 =>
  some (rr27.1, rr27.2, i_taped, rr1.1, i_teamMany, i_teamKind, i_well, i_tick, i_empty, i_away, i_litresThrown, i_spilt, i_pailsThrown, i_drawn, rr1.2, x10_1, a_rest, a_load, a_done, a_queue, a_waits, a_most, a_comes, a_state)

noncomputable def f14_cost_s10 (i_taped : Int32) (a_tape : Nat → Int32) (rr1 : Int32 × (Nat → Int32)) (w10_4 : Int32) (w10_5 : Int32) (w10_a_team : Nat → Int32) : Option ((Int32 × Int32 × (Nat → Int32)) ⊕ (((Nat → Int32)) ⊕ ((Nat → Int32)))) :=
  if i_taped ≤ w10_5 then
    some (.inr (.inl w10_a_team))
  else
    gd (inb w10_5 740) <|
    lt (a_tape w10_5.toNatClampNeg) fun v30 =>
    (f14_men rr1.2).bind fun rr31 =>
    if rr31 ≤ v30 then
      some (.inr (.inr w10_a_team))
    else
      gd (inb w10_5 740) <|
      lt (a_tape w10_5.toNatClampNeg) fun v34 =>
      (f14_has w10_4 v34).bind fun rr35 =>
      if rr35 = 0 then
        gd (inb w10_5 740) <|
        lt (a_tape w10_5.toNatClampNeg) fun v38 =>
        lt ((1 : Int32) <<< (v38 &&& 31)) fun v39 =>
        lt (w10_4 ||| v39) fun v40 =>
        gd (inb w10_5 740) <|
        lt (a_tape w10_5.toNatClampNeg) fun v42 =>
        gd (inb w10_5 12) <|
        lt (upd w10_a_team w10_5.toNatClampNeg v42) fun u44 =>
        lt (w10_5 + (1 : Int32)) fun v45 =>
        some (.inl (v40, v45, u44))
      else
        some (.inr (.inr w10_a_team))

noncomputable def f14_cost (p1 : Int32) (p2 : Int32) (i_thrown : Int32) (i_taped : Int32) (i_isBegun : Int32) (i_teamMany : Int32) (i_teamKind : Int32) (i_well : Int32) (i_tick : Int32) (i_empty : Int32) (i_away : Int32) (i_litresThrown : Int32) (i_spilt : Int32) (i_pailsThrown : Int32) (i_drawn : Int32) (a_tape : Nat → Int32) (a_now : Nat → Int32) (a_team : Nat → Int32) (a_rest : Nat → Int32) (a_load : Nat → Int32) (a_done : Nat → Int32) (a_queue : Nat → Int32) (a_waits : Nat → Int32) (a_most : Nat → Int32) (a_comes : Nat → Int32) (a_state : Nat → Int32) : Option (Int32 × Int32 × Int32 × Int32 × Int32 × Int32 × Int32 × Int32 × Int32 × Int32 × Int32 × Int32 × Int32 × Int32 × (Nat → Int32) × (Nat → Int32) × (Nat → Int32) × (Nat → Int32) × (Nat → Int32) × (Nat → Int32) × (Nat → Int32) × (Nat → Int32) × (Nat → Int32) × (Nat → Int32)) :=
  (f14_lay i_isBegun a_now).bind fun rr1 =>
  (f14_isIn i_taped (2 : Int32) (12 : Int32)).bind fun rr2 =>
  if rr2 = 0 then
    f14_cost_j43 rr1 i_thrown i_taped i_teamMany i_teamKind i_well i_tick i_empty i_away i_litresThrown i_spilt i_pailsThrown i_drawn a_team a_rest a_load a_done a_queue a_waits a_most a_comes a_state
  else
    (f14_isIn p1 (0 : Int32) (60 : Int32)).bind fun rr5 =>
    if rr5 = 0 then
      f14_cost_j43 rr1 i_thrown i_taped i_teamMany i_teamKind i_well i_tick i_empty i_away i_litresThrown i_spilt i_pailsThrown i_drawn a_team a_rest a_load a_done a_queue a_waits a_most a_comes a_state
    else
      lt ((60 : Int32) * p1) fun v7 =>
      (f14_isIn p2 v7 (3600 : Int32)).bind fun rr8 =>
      if rr8 = 0 then
        f14_cost_j43 rr1 i_thrown i_taped i_teamMany i_teamKind i_well i_tick i_empty i_away i_litresThrown i_spilt i_pailsThrown i_drawn a_team a_rest a_load a_done a_queue a_waits a_most a_comes a_state
      else
        (whl (fun (s10 : Int32 × Int32 × (Nat → Int32)) => f14_cost_s10 i_taped a_tape rr1 s10.1 s10.2.1 s10.2.2) FU ((0 : Int32), (0 : Int32), a_team)).bind fun rl10 =>
        Sum.elim (f14_cost_e10_0 p1 p2 i_taped i_teamMany i_teamKind i_well i_tick i_empty i_away i_litresThrown i_spilt i_pailsThrown i_drawn a_rest a_load a_done a_queue a_waits a_most a_comes a_state rr1) (f14_cost_e10_1 i_thrown i_taped i_teamMany i_teamKind i_well i_tick i_empty i_away i_litresThrown i_spilt i_pailsThrown i_drawn a_rest a_load a_done a_queue a_waits a_most a_comes a_state rr1) rl10
set_option maxHeartbeats 4000000 in
theorem m14_cost (l : Launch) (G : gG) (K : gK) (I : gI) (J : gJ) (X : gX) (A : gI) (B : gJ) (Q : gX) (o : Nat) (shM : Sh K X o 11 rows11) (p1 : Int32) (p2 : Int32) (i_thrown : Int32) (i_taped : Int32) (i_isBegun : Int32) (i_teamMany : Int32) (i_teamKind : Int32) (i_well : Int32) (i_tick : Int32) (i_empty : Int32) (i_away : Int32) (i_litresThrown : Int32) (i_spilt : Int32) (i_pailsThrown : Int32) (i_drawn : Int32) (a_tape : Nat → Int32) (a_now : Nat → Int32) (a_team : Nat → Int32) (a_rest : Nat → Int32) (a_load : Nat → Int32) (a_done : Nat → Int32) (a_queue : Nat → Int32) (a_waits : Nat → Int32) (a_most : Nat → Int32) (a_comes : Nat → Int32) (a_state : Nat → Int32) (e_i_thrown : I 1100 o = i_thrown) (e_i_taped : I 1102 o = i_taped) (e_i_isBegun : I 1122 o = i_isBegun) (e_i_teamMany : I 1133 o = i_teamMany) (e_i_teamKind : I 1134 o = i_teamKind) (e_i_well : I 1135 o = i_well) (e_i_tick : I 1136 o = i_tick) (e_i_empty : I 1137 o = i_empty) (e_i_away : I 1138 o = i_away) (e_i_litresThrown : I 1139 o = i_litresThrown) (e_i_spilt : I 1140 o = i_spilt) (e_i_pailsThrown : I 1141 o = i_pailsThrown) (e_i_drawn : I 1142 o = i_drawn) (e_a_tape : A (o + 1) = a_tape) (e_a_now : A (o + 2) = a_now) (e_a_team : A (o + 10) = a_team) (e_a_rest : A (o + 11) = a_rest) (e_a_load : A (o + 12) = a_load) (e_a_done : A (o + 13) = a_done) (e_a_queue : A (o + 14) = a_queue) (e_a_waits : A (o + 15) = a_waits) (e_a_most : A (o + 16) = a_most) (e_a_comes : A (o + 17) = a_comes) (e_a_state : A (o + 18) = a_state) (out : Int32 × Int32 × Int32 × Int32 × Int32 × Int32 × Int32 × Int32 × Int32 × Int32 × Int32 × Int32 × Int32 × Int32 × (Nat → Int32) × (Nat → Int32) × (Nat → Int32) × (Nat → Int32) × (Nat → Int32) × (Nat → Int32) × (Nat → Int32) × (Nat → Int32) × (Nat → Int32) × (Nat → Int32)) (hf : f14_cost p1 p2 i_thrown i_taped i_isBegun i_teamMany i_teamKind i_well i_tick i_empty i_away i_litresThrown i_spilt i_pailsThrown i_drawn a_tape a_now a_team a_rest a_load a_done a_queue a_waits a_most a_comes a_state = some out) : GMet l yX14_cost cX14_cost 7 (some .int) (7) (153) G [.ref o, .int p1, .int p2] K I J X A B Q (some (.int out.1)) K (ov I [(1100, o, out.2.1), (1102, o, out.2.2.1), (1122, o, out.2.2.2.1), (1133, o, out.2.2.2.2.1), (1134, o, out.2.2.2.2.2.1), (1135, o, out.2.2.2.2.2.2.1), (1136, o, out.2.2.2.2.2.2.2.1), (1137, o, out.2.2.2.2.2.2.2.2.1), (1138, o, out.2.2.2.2.2.2.2.2.2.1), (1139, o, out.2.2.2.2.2.2.2.2.2.2.1), (1140, o, out.2.2.2.2.2.2.2.2.2.2.2.1), (1141, o, out.2.2.2.2.2.2.2.2.2.2.2.2.1), (1142, o, out.2.2.2.2.2.2.2.2.2.2.2.2.2.1)]) J X (ova A [((o + 1), a_tape), ((o + 2), out.2.2.2.2.2.2.2.2.2.2.2.2.2.2.1), ((o + 10), out.2.2.2.2.2.2.2.2.2.2.2.2.2.2.2.1), ((o + 11), out.2.2.2.2.2.2.2.2.2.2.2.2.2.2.2.2.1), ((o + 12), out.2.2.2.2.2.2.2.2.2.2.2.2.2.2.2.2.2.1), ((o + 13), out.2.2.2.2.2.2.2.2.2.2.2.2.2.2.2.2.2.2.1), ((o + 14), out.2.2.2.2.2.2.2.2.2.2.2.2.2.2.2.2.2.2.2.1), ((o + 15), out.2.2.2.2.2.2.2.2.2.2.2.2.2.2.2.2.2.2.2.2.1), ((o + 16), out.2.2.2.2.2.2.2.2.2.2.2.2.2.2.2.2.2.2.2.2.2.1), ((o + 17), out.2.2.2.2.2.2.2.2.2.2.2.2.2.2.2.2.2.2.2.2.2.2.1), ((o + 18), out.2.2.2.2.2.2.2.2.2.2.2.2.2.2.2.2.2.2.2.2.2.2.2)]) B Q 0 0 := by
  refine GMet.of (y := yX14_cost) rfl (Nat.le_of_ble_eq_true rfl) rfl ?_
  intro p e s m below meth c ls hx hb hr hml hlocks hts hown hname hG hR hl
  have hown : s.vm.findClass RX14 = some m.cls := hown
  have k_a_tape : K (o + 1) = some (.inr (0, 740)) := (shM.2 0 _ rfl).1
  have k_a_now : K (o + 2) = some (.inr (0, 800)) := (shM.2 1 _ rfl).1
  have k_a_team : K (o + 10) = some (.inr (0, 12)) := (shM.2 9 _ rfl).1
  have k_a_rest : K (o + 11) = some (.inr (0, 12)) := (shM.2 10 _ rfl).1
  have k_a_load : K (o + 12) = some (.inr (0, 12)) := (shM.2 11 _ rfl).1
  have k_a_done : K (o + 13) = some (.inr (0, 12)) := (shM.2 12 _ rfl).1
  have k_a_queue : K (o + 14) = some (.inr (0, 360)) := (shM.2 13 _ rfl).1
  have k_a_waits : K (o + 15) = some (.inr (0, 12)) := (shM.2 14 _ rfl).1
  have k_a_most : K (o + 16) = some (.inr (0, 12)) := (shM.2 15 _ rfl).1
  have k_a_comes : K (o + 17) = some (.inr (0, 30)) := (shM.2 16 _ rfl).1
  have k_a_state : K (o + 18) = some (.inr (0, 12)) := (shM.2 17 _ rfl).1
  have hN_A : nda [(o + 1), (o + 2), (o + 10), (o + 11), (o + 12), (o + 13), (o + 14), (o + 15), (o + 16), (o + 17), (o + 18)] := nd_off o [1, 2, 10, 11, 12, 13, 14, 15, 16, 17, 18] rfl
  have hR : RS G K (ov I [(1100, o, i_thrown), (1102, o, i_taped), (1122, o, i_isBegun), (1133, o, i_teamMany), (1134, o, i_teamKind), (1135, o, i_well), (1136, o, i_tick), (1137, o, i_empty), (1138, o, i_away), (1139, o, i_litresThrown), (1140, o, i_spilt), (1141, o, i_pailsThrown), (1142, o, i_drawn)]) J X (ova A [((o + 1), a_tape), ((o + 2), a_now), ((o + 10), a_team), ((o + 11), a_rest), ((o + 12), a_load), ((o + 13), a_done), ((o + 14), a_queue), ((o + 15), a_waits), ((o + 16), a_most), ((o + 17), a_comes), ((o + 18), a_state)]) B Q s.heap := hR.to (Eq.symm (ov_sc e_i_thrown (ov_sc e_i_taped (ov_sc e_i_isBegun (ov_sc e_i_teamMany (ov_sc e_i_teamKind (ov_sc e_i_well (ov_sc e_i_tick (ov_sc e_i_empty (ov_sc e_i_away (ov_sc e_i_litresThrown (ov_sc e_i_spilt (ov_sc e_i_pailsThrown (ov_sc e_i_drawn rfl)))))))))))))) rfl rfl (Eq.symm (ova_sc e_a_tape (ova_sc e_a_now (ova_sc e_a_team (ova_sc e_a_rest (ova_sc e_a_load (ova_sc e_a_done (ova_sc e_a_queue (ova_sc e_a_waits (ova_sc e_a_most (ova_sc e_a_comes (ova_sc e_a_state rfl)))))))))))) rfl rfl
  have hS : va_S (gA G) s.heap s.heap [] := va_S.rf
  have hend : ∀ (pc : Nat) (H : Heap) (locs : List Loc) (ls : Array Slot), decode cX14_cost pc = .ok (.ireturn, 1) → RS G K (ov I [(1100, o, out.2.1), (1102, o, out.2.2.1), (1122, o, out.2.2.2.1), (1133, o, out.2.2.2.2.1), (1134, o, out.2.2.2.2.2.1), (1135, o, out.2.2.2.2.2.2.1), (1136, o, out.2.2.2.2.2.2.2.1), (1137, o, out.2.2.2.2.2.2.2.2.1), (1138, o, out.2.2.2.2.2.2.2.2.2.1), (1139, o, out.2.2.2.2.2.2.2.2.2.2.1), (1140, o, out.2.2.2.2.2.2.2.2.2.2.2.1), (1141, o, out.2.2.2.2.2.2.2.2.2.2.2.2.1), (1142, o, out.2.2.2.2.2.2.2.2.2.2.2.2.2.1)]) J X (ova A [((o + 1), a_tape), ((o + 2), out.2.2.2.2.2.2.2.2.2.2.2.2.2.2.1), ((o + 10), out.2.2.2.2.2.2.2.2.2.2.2.2.2.2.2.1), ((o + 11), out.2.2.2.2.2.2.2.2.2.2.2.2.2.2.2.2.1), ((o + 12), out.2.2.2.2.2.2.2.2.2.2.2.2.2.2.2.2.2.1), ((o + 13), out.2.2.2.2.2.2.2.2.2.2.2.2.2.2.2.2.2.2.1), ((o + 14), out.2.2.2.2.2.2.2.2.2.2.2.2.2.2.2.2.2.2.2.1), ((o + 15), out.2.2.2.2.2.2.2.2.2.2.2.2.2.2.2.2.2.2.2.2.1), ((o + 16), out.2.2.2.2.2.2.2.2.2.2.2.2.2.2.2.2.2.2.2.2.2.1), ((o + 17), out.2.2.2.2.2.2.2.2.2.2.2.2.2.2.2.2.2.2.2.2.2.2.1), ((o + 18), out.2.2.2.2.2.2.2.2.2.2.2.2.2.2.2.2.2.2.2.2.2.2.2)]) B Q H → va_S (gA G) s.heap H locs → W p l e ({ frames := 7, cells := 0, slots := 0, locals := 153 } : Room) s m ([.ref o, .int p1, .int p2] : List Value).toArray below meth c H locs 0 0 (MQ below (gQ G (some (.int out.1)) K (ov I [(1100, o, out.2.1), (1102, o, out.2.2.1), (1122, o, out.2.2.2.1), (1133, o, out.2.2.2.2.1), (1134, o, out.2.2.2.2.2.1), (1135, o, out.2.2.2.2.2.2.1), (1136, o, out.2.2.2.2.2.2.2.1), (1137, o, out.2.2.2.2.2.2.2.2.1), (1138, o, out.2.2.2.2.2.2.2.2.2.1), (1139, o, out.2.2.2.2.2.2.2.2.2.2.1), (1140, o, out.2.2.2.2.2.2.2.2.2.2.2.1), (1141, o, out.2.2.2.2.2.2.2.2.2.2.2.2.1), (1142, o, out.2.2.2.2.2.2.2.2.2.2.2.2.2.1)]) J X (ova A [((o + 1), a_tape), ((o + 2), out.2.2.2.2.2.2.2.2.2.2.2.2.2.2.1), ((o + 10), out.2.2.2.2.2.2.2.2.2.2.2.2.2.2.2.1), ((o + 11), out.2.2.2.2.2.2.2.2.2.2.2.2.2.2.2.2.1), ((o + 12), out.2.2.2.2.2.2.2.2.2.2.2.2.2.2.2.2.2.1), ((o + 13), out.2.2.2.2.2.2.2.2.2.2.2.2.2.2.2.2.2.2.1), ((o + 14), out.2.2.2.2.2.2.2.2.2.2.2.2.2.2.2.2.2.2.2.1), ((o + 15), out.2.2.2.2.2.2.2.2.2.2.2.2.2.2.2.2.2.2.2.2.1), ((o + 16), out.2.2.2.2.2.2.2.2.2.2.2.2.2.2.2.2.2.2.2.2.2.1), ((o + 17), out.2.2.2.2.2.2.2.2.2.2.2.2.2.2.2.2.2.2.2.2.2.2.1), ((o + 18), out.2.2.2.2.2.2.2.2.2.2.2.2.2.2.2.2.2.2.2.2.2.2.2)]) B Q) ([.ref o, .int p1, .int p2] : List Value).toArray s 0 0 (gA G)) (F0 m pc ls [.int out.1]) := fun pc H locs ls hd hR hS => g_iret hx hb hr hlocks hG hR hS rfl hd
  generalize MQ below (gQ G (some (.int out.1)) K (ov I [(1100, o, out.2.1), (1102, o, out.2.2.1), (1122, o, out.2.2.2.1), (1133, o, out.2.2.2.2.1), (1134, o, out.2.2.2.2.2.1), (1135, o, out.2.2.2.2.2.2.1), (1136, o, out.2.2.2.2.2.2.2.1), (1137, o, out.2.2.2.2.2.2.2.2.1), (1138, o, out.2.2.2.2.2.2.2.2.2.1), (1139, o, out.2.2.2.2.2.2.2.2.2.2.1), (1140, o, out.2.2.2.2.2.2.2.2.2.2.2.1), (1141, o, out.2.2.2.2.2.2.2.2.2.2.2.2.1), (1142, o, out.2.2.2.2.2.2.2.2.2.2.2.2.2.1)]) J X (ova A [((o + 1), a_tape), ((o + 2), out.2.2.2.2.2.2.2.2.2.2.2.2.2.2.1), ((o + 10), out.2.2.2.2.2.2.2.2.2.2.2.2.2.2.2.1), ((o + 11), out.2.2.2.2.2.2.2.2.2.2.2.2.2.2.2.2.1), ((o + 12), out.2.2.2.2.2.2.2.2.2.2.2.2.2.2.2.2.2.1), ((o + 13), out.2.2.2.2.2.2.2.2.2.2.2.2.2.2.2.2.2.2.1), ((o + 14), out.2.2.2.2.2.2.2.2.2.2.2.2.2.2.2.2.2.2.2.1), ((o + 15), out.2.2.2.2.2.2.2.2.2.2.2.2.2.2.2.2.2.2.2.2.1), ((o + 16), out.2.2.2.2.2.2.2.2.2.2.2.2.2.2.2.2.2.2.2.2.2.1), ((o + 17), out.2.2.2.2.2.2.2.2.2.2.2.2.2.2.2.2.2.2.2.2.2.2.1), ((o + 18), out.2.2.2.2.2.2.2.2.2.2.2.2.2.2.2.2.2.2.2.2.2.2.2)]) B Q) ([.ref o, .int p1, .int p2] : List Value).toArray s 0 0 (gA G) = Z at hend ⊢
  generalize ([.ref o, .int p1, .int p2] : List Value).toArray = args at hts hend ⊢
  unfold f14_cost at hf
  refine lv_aload_n hx hb dX14_cost_0 rfl (lv_at hl 0 rfl) ?_
  obtain ⟨rr1, hrr1, hf⟩ := bind_s hf
  refine g0_cVv (rm := (1, 21)) (As := []) (rest := []) ⟨hx, hb, hml, hown, hts⟩ hG hR hS (m14_lay l G K (ov I [(1100, o, i_thrown), (1102, o, i_taped), (1122, o, i_isBegun), (1133, o, i_teamMany), (1134, o, i_teamKind), (1135, o, i_well), (1136, o, i_tick), (1137, o, i_empty), (1138, o, i_away), (1139, o, i_litresThrown), (1140, o, i_spilt), (1141, o, i_pailsThrown), (1142, o, i_drawn)]) J X (ova A [((o + 1), a_tape), ((o + 2), a_now), ((o + 10), a_team), ((o + 11), a_rest), ((o + 12), a_load), ((o + 13), a_done), ((o + 14), a_queue), ((o + 15), a_waits), ((o + 16), a_most), ((o + 17), a_comes), ((o + 18), a_state)]) B Q o shM i_isBegun a_now (ov_get 2 rfl rfl) (ova_get 1 hN_A rfl) rr1 hrr1) (cwV 0 hts gi_X14_232 rfl rfl rfl hd_X14_lay ⟨Nat.le_of_ble_eq_true rfl, Nat.le_of_ble_eq_true rfl⟩) shM.1 rfl rfl hl.1 (Nat.le_of_ble_eq_true rfl) dX14_cost_1 ⟨Nat.le_refl _, Nat.le_refl _⟩ rfl (fun H locs hR hS => ?_)
  have hR : RS G K (ov I [(1100, o, i_thrown), (1102, o, i_taped), (1122, o, rr1.1), (1133, o, i_teamMany), (1134, o, i_teamKind), (1135, o, i_well), (1136, o, i_tick), (1137, o, i_empty), (1138, o, i_away), (1139, o, i_litresThrown), (1140, o, i_spilt), (1141, o, i_pailsThrown), (1142, o, i_drawn)]) J X (ova A [((o + 1), a_tape), ((o + 2), rr1.2), ((o + 10), a_team), ((o + 11), a_rest), ((o + 12), a_load), ((o + 13), a_done), ((o + 14), a_queue), ((o + 15), a_waits), ((o + 16), a_most), ((o + 17), a_comes), ((o + 18), a_state)]) B Q H := hR.to (ov_merge (l := [(1100, o, i_thrown), (1102, o, i_taped), (1122, o, i_isBegun), (1133, o, i_teamMany), (1134, o, i_teamKind), (1135, o, i_well), (1136, o, i_tick), (1137, o, i_empty), (1138, o, i_away), (1139, o, i_litresThrown), (1140, o, i_spilt), (1141, o, i_pailsThrown), (1142, o, i_drawn)]) rfl [2] [(1122, o, rr1.1)] rfl rfl) rfl rfl (ova_merge (l := [((o + 1), a_tape), ((o + 2), a_now), ((o + 10), a_team), ((o + 11), a_rest), ((o + 12), a_load), ((o + 13), a_done), ((o + 14), a_queue), ((o + 15), a_waits), ((o + 16), a_most), ((o + 17), a_comes), ((o + 18), a_state)]) hN_A [1] [((o + 2), rr1.2)] rfl rfl) rfl rfl
  refine lv_aload_n hx hb dX14_cost_4 rfl (lv_at hl 0 rfl) ?_
  refine n_geti (v := i_taped) hx hb hts hown hG hR gFi_X14_151_11 shM.1 (ov_get 1 rfl rfl) dX14_cost_5 ?_
  refine lv_istore_n (lv' := [(3, .int i_taped), (0, .ref o), (1, .int p1), (2, .int p2)]) hx hb dX14_cost_8 rfl hl (by decide) rfl (fun ls hl => ?_)
  refine lv_iload_n hx hb dX14_cost_9 rfl (lv_at hl 0 rfl) ?_
  refine lv_iconst (v := 2) hx hb dX14_cost_10 li_2 ?_
  refine lv_bipush (v := 12) hx hb dX14_cost_11 lb_12 ?_
  obtain ⟨rr2, hrr2, hf⟩ := bind_s hf
  refine g0_cS (rm := (0, 0)) (As := [.int i_taped, .int (2 : Int32), .int (12 : Int32)]) (rest := []) ⟨hx, hb, hml, hown, hts⟩ hG hR hS (m14_isIn l G K (ov I [(1100, o, i_thrown), (1102, o, i_taped), (1122, o, rr1.1), (1133, o, i_teamMany), (1134, o, i_teamKind), (1135, o, i_well), (1136, o, i_tick), (1137, o, i_empty), (1138, o, i_away), (1139, o, i_litresThrown), (1140, o, i_spilt), (1141, o, i_pailsThrown), (1142, o, i_drawn)]) J X (ova A [((o + 1), a_tape), ((o + 2), rr1.2), ((o + 10), a_team), ((o + 11), a_rest), ((o + 12), a_load), ((o + 13), a_done), ((o + 14), a_queue), ((o + 15), a_waits), ((o + 16), a_most), ((o + 17), a_comes), ((o + 18), a_state)]) B Q i_taped (2 : Int32) (12 : Int32) rr2 hrr2) (cwS 3 hts gi_X14_219 rfl rfl rfl hd_X14_isIn ⟨Nat.le_of_ble_eq_true rfl, Nat.le_of_ble_eq_true rfl⟩) rfl hl.1 (Nat.le_of_ble_eq_true rfl) dX14_cost_13 ⟨Nat.le_refl _, Nat.le_refl _⟩ rfl (fun H locs hR hS => ?_)
  have hj43 : ∀ (j43_i_thrown : Int32) (j43_i_taped : Int32) (j43_i_teamMany : Int32) (j43_i_teamKind : Int32) (j43_i_well : Int32) (j43_i_tick : Int32) (j43_i_empty : Int32) (j43_i_away : Int32) (j43_i_litresThrown : Int32) (j43_i_spilt : Int32) (j43_i_pailsThrown : Int32) (j43_i_drawn : Int32) (j43_a_team : Nat → Int32) (j43_a_rest : Nat → Int32) (j43_a_load : Nat → Int32) (j43_a_done : Nat → Int32) (j43_a_queue : Nat → Int32) (j43_a_waits : Nat → Int32) (j43_a_most : Nat → Int32) (j43_a_comes : Nat → Int32) (j43_a_state : Nat → Int32), f14_cost_j43 rr1 j43_i_thrown j43_i_taped j43_i_teamMany j43_i_teamKind j43_i_well j43_i_tick j43_i_empty j43_i_away j43_i_litresThrown j43_i_spilt j43_i_pailsThrown j43_i_drawn j43_a_team j43_a_rest j43_a_load j43_a_done j43_a_queue j43_a_waits j43_a_most j43_a_comes j43_a_state = some out → ∀ (H : Heap) (locs : List Loc) (ls : Array Slot), RS G K (ov I [(1100, o, j43_i_thrown), (1102, o, j43_i_taped), (1122, o, rr1.1), (1133, o, j43_i_teamMany), (1134, o, j43_i_teamKind), (1135, o, j43_i_well), (1136, o, j43_i_tick), (1137, o, j43_i_empty), (1138, o, j43_i_away), (1139, o, j43_i_litresThrown), (1140, o, j43_i_spilt), (1141, o, j43_i_pailsThrown), (1142, o, j43_i_drawn)]) J X (ova A [((o + 1), a_tape), ((o + 2), rr1.2), ((o + 10), j43_a_team), ((o + 11), j43_a_rest), ((o + 12), j43_a_load), ((o + 13), j43_a_done), ((o + 14), j43_a_queue), ((o + 15), j43_a_waits), ((o + 16), j43_a_most), ((o + 17), j43_a_comes), ((o + 18), j43_a_state)]) B Q H → va_S (gA G) s.heap H locs → lv_has ls 7 [(0, .ref o)] → W p l e ({ frames := 7, cells := 0, slots := 0, locals := 153 } : Room) s m args below meth c H locs 0 0 Z (F0 m 43 ls []) := by
    intro j43_i_thrown j43_i_taped j43_i_teamMany j43_i_teamKind j43_i_well j43_i_tick j43_i_empty j43_i_away j43_i_litresThrown j43_i_spilt j43_i_pailsThrown j43_i_drawn j43_a_team j43_a_rest j43_a_load j43_a_done j43_a_queue j43_a_waits j43_a_most j43_a_comes j43_a_state hf H locs ls hR hS hl
    unfold f14_cost_j43 at hf
    refine lv_aload_n hx hb dX14_cost_43 rfl (lv_at hl 0 rfl) ?_
    obtain ⟨rr3, hrr3, hf⟩ := bind_s hf
    refine g0_cV (rm := (0, 0)) (As := []) (rest := []) ⟨hx, hb, hml, hown, hts⟩ hG hR hS (m14_refuse l G K (ov I [(1100, o, j43_i_thrown), (1102, o, j43_i_taped), (1122, o, rr1.1), (1133, o, j43_i_teamMany), (1134, o, j43_i_teamKind), (1135, o, j43_i_well), (1136, o, j43_i_tick), (1137, o, j43_i_empty), (1138, o, j43_i_away), (1139, o, j43_i_litresThrown), (1140, o, j43_i_spilt), (1141, o, j43_i_pailsThrown), (1142, o, j43_i_drawn)]) J X (ova A [((o + 1), a_tape), ((o + 2), rr1.2), ((o + 10), j43_a_team), ((o + 11), j43_a_rest), ((o + 12), j43_a_load), ((o + 13), j43_a_done), ((o + 14), j43_a_queue), ((o + 15), j43_a_waits), ((o + 16), j43_a_most), ((o + 17), j43_a_comes), ((o + 18), j43_a_state)]) B Q o shM j43_i_thrown (ov_get 0 rfl rfl) rr3 hrr3) (cwV 0 hts gi_X14_291 rfl rfl rfl hd_X14_refuse ⟨Nat.le_of_ble_eq_true rfl, Nat.le_of_ble_eq_true rfl⟩) shM.1 rfl rfl hl.1 (Nat.le_of_ble_eq_true rfl) dX14_cost_44 ⟨Nat.le_refl _, Nat.le_refl _⟩ rfl (fun H locs hR hS => ?_)
    have hR : RS G K (ov I [(1100, o, rr3.2), (1102, o, j43_i_taped), (1122, o, rr1.1), (1133, o, j43_i_teamMany), (1134, o, j43_i_teamKind), (1135, o, j43_i_well), (1136, o, j43_i_tick), (1137, o, j43_i_empty), (1138, o, j43_i_away), (1139, o, j43_i_litresThrown), (1140, o, j43_i_spilt), (1141, o, j43_i_pailsThrown), (1142, o, j43_i_drawn)]) J X (ova A [((o + 1), a_tape), ((o + 2), rr1.2), ((o + 10), j43_a_team), ((o + 11), j43_a_rest), ((o + 12), j43_a_load), ((o + 13), j43_a_done), ((o + 14), j43_a_queue), ((o + 15), j43_a_waits), ((o + 16), j43_a_most), ((o + 17), j43_a_comes), ((o + 18), j43_a_state)]) B Q H := hR.to (ov_merge (l := [(1100, o, j43_i_thrown), (1102, o, j43_i_taped), (1122, o, rr1.1), (1133, o, j43_i_teamMany), (1134, o, j43_i_teamKind), (1135, o, j43_i_well), (1136, o, j43_i_tick), (1137, o, j43_i_empty), (1138, o, j43_i_away), (1139, o, j43_i_litresThrown), (1140, o, j43_i_spilt), (1141, o, j43_i_pailsThrown), (1142, o, j43_i_drawn)]) rfl [0] [(1100, o, rr3.2)] rfl rfl) rfl rfl rfl rfl rfl
    obtain rfl := some_i hf
    exact hend _ _ _ _ dX14_cost_47 hR hS
  refine lv_if_eq (tgt := 43) hx hb dX14_cost_16 (by decide) (fun c4 => ?_) (fun c4 => ?_)
  · have hf := ite_t c4 hf
    exact hj43 i_thrown i_taped i_teamMany i_teamKind i_well i_tick i_empty i_away i_litresThrown i_spilt i_pailsThrown i_drawn a_team a_rest a_load a_done a_queue a_waits a_most a_comes a_state hf _ _ _ hR hS (lv_sub hl [1] rfl)
  · have hf := ite_f c4 hf
    refine lv_iload_n hx hb dX14_cost_19 rfl (lv_at hl 2 rfl) ?_
    refine lv_iconst (v := 0) hx hb dX14_cost_20 li_0 ?_
    refine lv_bipush (v := 60) hx hb dX14_cost_21 lb_60 ?_
    obtain ⟨rr5, hrr5, hf⟩ := bind_s hf
    refine g0_cS (rm := (0, 0)) (As := [.int p1, .int (0 : Int32), .int (60 : Int32)]) (rest := []) ⟨hx, hb, hml, hown, hts⟩ hG hR hS (m14_isIn l G K (ov I [(1100, o, i_thrown), (1102, o, i_taped), (1122, o, rr1.1), (1133, o, i_teamMany), (1134, o, i_teamKind), (1135, o, i_well), (1136, o, i_tick), (1137, o, i_empty), (1138, o, i_away), (1139, o, i_litresThrown), (1140, o, i_spilt), (1141, o, i_pailsThrown), (1142, o, i_drawn)]) J X (ova A [((o + 1), a_tape), ((o + 2), rr1.2), ((o + 10), a_team), ((o + 11), a_rest), ((o + 12), a_load), ((o + 13), a_done), ((o + 14), a_queue), ((o + 15), a_waits), ((o + 16), a_most), ((o + 17), a_comes), ((o + 18), a_state)]) B Q p1 (0 : Int32) (60 : Int32) rr5 hrr5) (cwS 3 hts gi_X14_219 rfl rfl rfl hd_X14_isIn ⟨Nat.le_of_ble_eq_true rfl, Nat.le_of_ble_eq_true rfl⟩) rfl hl.1 (Nat.le_of_ble_eq_true rfl) dX14_cost_23 ⟨Nat.le_refl _, Nat.le_refl _⟩ rfl (fun H locs hR hS => ?_)
    refine lv_if_eq (tgt := 43) hx hb dX14_cost_26 (by decide) (fun c6 => ?_) (fun c6 => ?_)
    · have hf := ite_t c6 hf
      exact hj43 i_thrown i_taped i_teamMany i_teamKind i_well i_tick i_empty i_away i_litresThrown i_spilt i_pailsThrown i_drawn a_team a_rest a_load a_done a_queue a_waits a_most a_comes a_state hf _ _ _ hR hS (lv_sub hl [1] rfl)
    · have hf := ite_f c6 hf
      refine lv_iload_n hx hb dX14_cost_29 rfl (lv_at hl 3 rfl) ?_
      refine lv_bipush (v := 60) hx hb dX14_cost_30 lb_60 ?_
      refine lv_iload_n hx hb dX14_cost_32 rfl (lv_at hl 2 rfl) ?_
      obtain ⟨v7, ev7, hf⟩ := lt_some hf
      refine n_imul hx hb ev7 dX14_cost_33 ?_
      refine lv_sipush (v := 3600) hx hb dX14_cost_34 ls_3600 ?_
      obtain ⟨rr8, hrr8, hf⟩ := bind_s hf
      refine g0_cS (rm := (0, 0)) (As := [.int p2, .int v7, .int (3600 : Int32)]) (rest := []) ⟨hx, hb, hml, hown, hts⟩ hG hR hS (m14_isIn l G K (ov I [(1100, o, i_thrown), (1102, o, i_taped), (1122, o, rr1.1), (1133, o, i_teamMany), (1134, o, i_teamKind), (1135, o, i_well), (1136, o, i_tick), (1137, o, i_empty), (1138, o, i_away), (1139, o, i_litresThrown), (1140, o, i_spilt), (1141, o, i_pailsThrown), (1142, o, i_drawn)]) J X (ova A [((o + 1), a_tape), ((o + 2), rr1.2), ((o + 10), a_team), ((o + 11), a_rest), ((o + 12), a_load), ((o + 13), a_done), ((o + 14), a_queue), ((o + 15), a_waits), ((o + 16), a_most), ((o + 17), a_comes), ((o + 18), a_state)]) B Q p2 v7 (3600 : Int32) rr8 hrr8) (cwS 3 hts gi_X14_219 rfl rfl rfl hd_X14_isIn ⟨Nat.le_of_ble_eq_true rfl, Nat.le_of_ble_eq_true rfl⟩) rfl hl.1 (Nat.le_of_ble_eq_true rfl) dX14_cost_37 ⟨Nat.le_refl _, Nat.le_refl _⟩ rfl (fun H locs hR hS => ?_)
      refine lv_if_ne (tgt := 48) hx hb dX14_cost_40 (by decide) (fun c9 => ?_) (fun c9 => ?_)
      · have hf := ite_f c9 hf
        refine lv_iconst (v := 0) hx hb dX14_cost_48 li_0 ?_
        refine lv_istore (lv' := [(4, .int (0 : Int32)), (3, .int i_taped), (0, .ref o), (1, .int p1), (2, .int p2)]) hx hb dX14_cost_49 hl (by decide) rfl (fun ls hl => ?_)
        refine lv_iconst (v := 0) hx hb dX14_cost_51 li_0 ?_
        refine lv_istore (lv' := [(5, .int (0 : Int32)), (4, .int (0 : Int32)), (3, .int i_taped), (0, .ref o), (1, .int p1), (2, .int p2)]) hx hb dX14_cost_52 hl (by decide) rfl (fun ls hl => ?_)
        obtain ⟨rl10, hw10, hfo10⟩ := bind_s hf
        have hx10_0 : ∀ (x10_0 : (Nat → Int32)), f14_cost_e10_0 p1 p2 i_taped i_teamMany i_teamKind i_well i_tick i_empty i_away i_litresThrown i_spilt i_pailsThrown i_drawn a_rest a_load a_done a_queue a_waits a_most a_comes a_state rr1 x10_0 = some out → ∀ (H : Heap) (locs : List Loc) (ls : Array Slot), RS G K (ov I [(1100, o, i_thrown), (1102, o, i_taped), (1122, o, rr1.1), (1133, o, i_teamMany), (1134, o, i_teamKind), (1135, o, i_well), (1136, o, i_tick), (1137, o, i_empty), (1138, o, i_away), (1139, o, i_litresThrown), (1140, o, i_spilt), (1141, o, i_pailsThrown), (1142, o, i_drawn)]) J X (ova A [((o + 1), a_tape), ((o + 2), rr1.2), ((o + 10), x10_0), ((o + 11), a_rest), ((o + 12), a_load), ((o + 13), a_done), ((o + 14), a_queue), ((o + 15), a_waits), ((o + 16), a_most), ((o + 17), a_comes), ((o + 18), a_state)]) B Q H → va_S (gA G) s.heap H locs → lv_has ls 7 [(0, .ref o), (1, .int p1), (2, .int p2), (3, .int i_taped)] → W p l e ({ frames := 7, cells := 0, slots := 0, locals := 153 } : Room) s m args below meth c H locs 0 0 Z (F0 m 128 ls []) := by
          intro x10_0 hf H locs ls hR hS hl
          unfold f14_cost_e10_0 at hf
          refine lv_aload_n hx hb dX14_cost_128 rfl (lv_at hl 0 rfl) ?_
          refine lv_iconst (v := 0) hx hb dX14_cost_129 li_0 ?_
          refine n_puti (li' := [(1100, o, (0 : Int32)), (1102, o, i_taped), (1122, o, rr1.1), (1133, o, i_teamMany), (1134, o, i_teamKind), (1135, o, i_well), (1136, o, i_tick), (1137, o, i_empty), (1138, o, i_away), (1139, o, i_litresThrown), (1140, o, i_spilt), (1141, o, i_pailsThrown), (1142, o, i_drawn)]) hx hb hts hown hG hR hS gPi_X14_148_11 shM.1 0 rfl rfl rfl dX14_cost_130 (fun H locs hR hS => ?_)
          refine lv_aload_n hx hb dX14_cost_133 rfl (lv_at hl 0 rfl) ?_
          obtain ⟨rr11, hrr11, hf⟩ := bind_s hf
          refine g0_cV (rm := (0, 0)) (As := []) (rest := []) ⟨hx, hb, hml, hown, hts⟩ hG hR hS (m14_take l G K (ov I [(1100, o, (0 : Int32)), (1102, o, i_taped), (1122, o, rr1.1), (1133, o, i_teamMany), (1134, o, i_teamKind), (1135, o, i_well), (1136, o, i_tick), (1137, o, i_empty), (1138, o, i_away), (1139, o, i_litresThrown), (1140, o, i_spilt), (1141, o, i_pailsThrown), (1142, o, i_drawn)]) J X (ova A [((o + 1), a_tape), ((o + 2), rr1.2), ((o + 10), x10_0), ((o + 11), a_rest), ((o + 12), a_load), ((o + 13), a_done), ((o + 14), a_queue), ((o + 15), a_waits), ((o + 16), a_most), ((o + 17), a_comes), ((o + 18), a_state)]) B Q o shM i_taped (ov_get 1 rfl rfl) rr11 hrr11) (cwV 0 hts gi_X14_235 rfl rfl rfl hd_X14_take ⟨Nat.le_of_ble_eq_true rfl, Nat.le_of_ble_eq_true rfl⟩) shM.1 rfl rfl hl.1 (Nat.le_of_ble_eq_true rfl) dX14_cost_134 ⟨Nat.le_refl _, Nat.le_refl _⟩ rfl (fun H locs hR hS => ?_)
          have hR : RS G K (ov I [(1100, o, (0 : Int32)), (1102, o, rr11.2), (1122, o, rr1.1), (1133, o, i_teamMany), (1134, o, i_teamKind), (1135, o, i_well), (1136, o, i_tick), (1137, o, i_empty), (1138, o, i_away), (1139, o, i_litresThrown), (1140, o, i_spilt), (1141, o, i_pailsThrown), (1142, o, i_drawn)]) J X (ova A [((o + 1), a_tape), ((o + 2), rr1.2), ((o + 10), x10_0), ((o + 11), a_rest), ((o + 12), a_load), ((o + 13), a_done), ((o + 14), a_queue), ((o + 15), a_waits), ((o + 16), a_most), ((o + 17), a_comes), ((o + 18), a_state)]) B Q H := hR.to (ov_merge (l := [(1100, o, (0 : Int32)), (1102, o, i_taped), (1122, o, rr1.1), (1133, o, i_teamMany), (1134, o, i_teamKind), (1135, o, i_well), (1136, o, i_tick), (1137, o, i_empty), (1138, o, i_away), (1139, o, i_litresThrown), (1140, o, i_spilt), (1141, o, i_pailsThrown), (1142, o, i_drawn)]) rfl [1] [(1102, o, rr11.2)] rfl rfl) rfl rfl rfl rfl rfl
          refine lv_pop hx hb dX14_cost_137 rfl ?_
          refine lv_aload_n hx hb dX14_cost_138 rfl (lv_at hl 0 rfl) ?_
          refine lv_iconst (v := 1) hx hb dX14_cost_139 li_1 ?_
          refine lv_iload_n hx hb dX14_cost_140 rfl (lv_at hl 3 rfl) ?_
          refine lv_aload_n hx hb dX14_cost_141 rfl (lv_at hl 0 rfl) ?_
          refine g_getr (b := (o + 2)) hx hb hts hown hG hR gFx_X14_13_11 shM.1 ((shM.2 1 _ rfl).2) dX14_cost_142 ?_
          refine lv_iconst (v := 5) hx hb dX14_cost_145 li_5 ?_
          obtain ⟨c12, hf⟩ := gd_some hf
          obtain ⟨v13, ev13, hf⟩ := lt_some hf
          refine n_iald (x := rr1.2) hx hb hG hR k_a_now c12 (ova_get 1 hN_A rfl) ev13 dX14_cost_146 ?_
          refine lv_iload_n hx hb dX14_cost_147 rfl (lv_at hl 2 rfl) ?_
          obtain ⟨rr14, hrr14, hf⟩ := bind_s hf
          refine g0_cV (rm := (6, 128)) (As := [.int (1 : Int32), .int i_taped, .int v13, .int p2]) (rest := []) ⟨hx, hb, hml, hown, hts⟩ hG hR hS (m14_throwsIn l G K (ov I [(1100, o, (0 : Int32)), (1102, o, rr11.2), (1122, o, rr1.1), (1133, o, i_teamMany), (1134, o, i_teamKind), (1135, o, i_well), (1136, o, i_tick), (1137, o, i_empty), (1138, o, i_away), (1139, o, i_litresThrown), (1140, o, i_spilt), (1141, o, i_pailsThrown), (1142, o, i_drawn)]) J X (ova A [((o + 1), a_tape), ((o + 2), rr1.2), ((o + 10), x10_0), ((o + 11), a_rest), ((o + 12), a_load), ((o + 13), a_done), ((o + 14), a_queue), ((o + 15), a_waits), ((o + 16), a_most), ((o + 17), a_comes), ((o + 18), a_state)]) B Q o shM (1 : Int32) i_taped v13 p2 i_teamMany i_teamKind i_well i_tick i_empty i_away i_litresThrown i_spilt i_pailsThrown i_drawn rr1.2 x10_0 a_rest a_load a_done a_queue a_waits a_most a_comes a_state (ov_get 3 rfl rfl) (ov_get 4 rfl rfl) (ov_get 5 rfl rfl) (ov_get 6 rfl rfl) (ov_get 7 rfl rfl) (ov_get 8 rfl rfl) (ov_get 9 rfl rfl) (ov_get 10 rfl rfl) (ov_get 11 rfl rfl) (ov_get 12 rfl rfl) (ova_get 1 hN_A rfl) (ova_get 2 hN_A rfl) (ova_get 3 hN_A rfl) (ova_get 4 hN_A rfl) (ova_get 5 hN_A rfl) (ova_get 6 hN_A rfl) (ova_get 7 hN_A rfl) (ova_get 8 hN_A rfl) (ova_get 9 hN_A rfl) (ova_get 10 hN_A rfl) rr14 hrr14) (cwV 4 hts gi_X14_376 rfl rfl rfl hd_X14_throwsIn ⟨Nat.le_of_ble_eq_true rfl, Nat.le_of_ble_eq_true rfl⟩) shM.1 rfl rfl hl.1 (Nat.le_of_ble_eq_true rfl) dX14_cost_148 ⟨Nat.le_refl _, Nat.le_refl _⟩ rfl (fun H locs hR hS => ?_)
          have hR : RS G K (ov I [(1100, o, (0 : Int32)), (1102, o, rr11.2), (1122, o, rr1.1), (1133, o, rr14.2.1), (1134, o, rr14.2.2.1), (1135, o, rr14.2.2.2.1), (1136, o, rr14.2.2.2.2.1), (1137, o, rr14.2.2.2.2.2.1), (1138, o, rr14.2.2.2.2.2.2.1), (1139, o, rr14.2.2.2.2.2.2.2.1), (1140, o, rr14.2.2.2.2.2.2.2.2.1), (1141, o, rr14.2.2.2.2.2.2.2.2.2.1), (1142, o, rr14.2.2.2.2.2.2.2.2.2.2.1)]) J X (ova A [((o + 1), a_tape), ((o + 2), rr1.2), ((o + 10), x10_0), ((o + 11), rr14.2.2.2.2.2.2.2.2.2.2.2.1), ((o + 12), rr14.2.2.2.2.2.2.2.2.2.2.2.2.1), ((o + 13), rr14.2.2.2.2.2.2.2.2.2.2.2.2.2.1), ((o + 14), rr14.2.2.2.2.2.2.2.2.2.2.2.2.2.2.1), ((o + 15), rr14.2.2.2.2.2.2.2.2.2.2.2.2.2.2.2.1), ((o + 16), rr14.2.2.2.2.2.2.2.2.2.2.2.2.2.2.2.2.1), ((o + 17), rr14.2.2.2.2.2.2.2.2.2.2.2.2.2.2.2.2.2.1), ((o + 18), rr14.2.2.2.2.2.2.2.2.2.2.2.2.2.2.2.2.2.2)]) B Q H := hR.to (ov_merge (l := [(1100, o, (0 : Int32)), (1102, o, rr11.2), (1122, o, rr1.1), (1133, o, i_teamMany), (1134, o, i_teamKind), (1135, o, i_well), (1136, o, i_tick), (1137, o, i_empty), (1138, o, i_away), (1139, o, i_litresThrown), (1140, o, i_spilt), (1141, o, i_pailsThrown), (1142, o, i_drawn)]) rfl [3, 4, 5, 6, 7, 8, 9, 10, 11, 12] [(1133, o, rr14.2.1), (1134, o, rr14.2.2.1), (1135, o, rr14.2.2.2.1), (1136, o, rr14.2.2.2.2.1), (1137, o, rr14.2.2.2.2.2.1), (1138, o, rr14.2.2.2.2.2.2.1), (1139, o, rr14.2.2.2.2.2.2.2.1), (1140, o, rr14.2.2.2.2.2.2.2.2.1), (1141, o, rr14.2.2.2.2.2.2.2.2.2.1), (1142, o, rr14.2.2.2.2.2.2.2.2.2.2.1)] rfl rfl) rfl rfl (ova_merge (l := [((o + 1), a_tape), ((o + 2), rr1.2), ((o + 10), x10_0), ((o + 11), a_rest), ((o + 12), a_load), ((o + 13), a_done), ((o + 14), a_queue), ((o + 15), a_waits), ((o + 16), a_most), ((o + 17), a_comes), ((o + 18), a_state)]) hN_A [1, 2, 3, 4, 5, 6, 7, 8, 9, 10] [((o + 2), rr1.2), ((o + 10), x10_0), ((o + 11), rr14.2.2.2.2.2.2.2.2.2.2.2.1), ((o + 12), rr14.2.2.2.2.2.2.2.2.2.2.2.2.1), ((o + 13), rr14.2.2.2.2.2.2.2.2.2.2.2.2.2.1), ((o + 14), rr14.2.2.2.2.2.2.2.2.2.2.2.2.2.2.1), ((o + 15), rr14.2.2.2.2.2.2.2.2.2.2.2.2.2.2.2.1), ((o + 16), rr14.2.2.2.2.2.2.2.2.2.2.2.2.2.2.2.2.1), ((o + 17), rr14.2.2.2.2.2.2.2.2.2.2.2.2.2.2.2.2.2.1), ((o + 18), rr14.2.2.2.2.2.2.2.2.2.2.2.2.2.2.2.2.2.2)] rfl rfl) rfl rfl
          refine lv_istore (lv' := [(5, .int rr14.1), (0, .ref o), (1, .int p1), (2, .int p2), (3, .int i_taped)]) hx hb dX14_cost_151 hl (by decide) rfl (fun ls hl => ?_)
          refine lv_aload_n hx hb dX14_cost_153 rfl (lv_at hl 1 rfl) ?_
          refine lv_iconst (v := 2) hx hb dX14_cost_154 li_2 ?_
          refine lv_iload_n hx hb dX14_cost_155 rfl (lv_at hl 4 rfl) ?_
          refine lv_aload_n hx hb dX14_cost_156 rfl (lv_at hl 1 rfl) ?_
          refine g_getr (b := (o + 2)) hx hb hts hown hG hR gFx_X14_13_11 shM.1 ((shM.2 1 _ rfl).2) dX14_cost_157 ?_
          refine lv_iconst (v := 5) hx hb dX14_cost_160 li_5 ?_
          obtain ⟨c15, hf⟩ := gd_some hf
          obtain ⟨v16, ev16, hf⟩ := lt_some hf
          refine n_iald (x := rr1.2) hx hb hG hR k_a_now c15 (ova_get 1 hN_A rfl) ev16 dX14_cost_161 ?_
          refine lv_bipush (v := 60) hx hb dX14_cost_162 lb_60 ?_
          refine lv_iload_n hx hb dX14_cost_164 rfl (lv_at hl 2 rfl) ?_
          obtain ⟨v17, ev17, hf⟩ := lt_some hf
          refine n_imul hx hb ev17 dX14_cost_165 ?_
          obtain ⟨rr18, hrr18, hf⟩ := bind_s hf
          refine g0_cV (rm := (6, 128)) (As := [.int (2 : Int32), .int i_taped, .int v16, .int v17]) (rest := []) ⟨hx, hb, hml, hown, hts⟩ hG hR hS (m14_throwsIn l G K (ov I [(1100, o, (0 : Int32)), (1102, o, rr11.2), (1122, o, rr1.1), (1133, o, rr14.2.1), (1134, o, rr14.2.2.1), (1135, o, rr14.2.2.2.1), (1136, o, rr14.2.2.2.2.1), (1137, o, rr14.2.2.2.2.2.1), (1138, o, rr14.2.2.2.2.2.2.1), (1139, o, rr14.2.2.2.2.2.2.2.1), (1140, o, rr14.2.2.2.2.2.2.2.2.1), (1141, o, rr14.2.2.2.2.2.2.2.2.2.1), (1142, o, rr14.2.2.2.2.2.2.2.2.2.2.1)]) J X (ova A [((o + 1), a_tape), ((o + 2), rr1.2), ((o + 10), x10_0), ((o + 11), rr14.2.2.2.2.2.2.2.2.2.2.2.1), ((o + 12), rr14.2.2.2.2.2.2.2.2.2.2.2.2.1), ((o + 13), rr14.2.2.2.2.2.2.2.2.2.2.2.2.2.1), ((o + 14), rr14.2.2.2.2.2.2.2.2.2.2.2.2.2.2.1), ((o + 15), rr14.2.2.2.2.2.2.2.2.2.2.2.2.2.2.2.1), ((o + 16), rr14.2.2.2.2.2.2.2.2.2.2.2.2.2.2.2.2.1), ((o + 17), rr14.2.2.2.2.2.2.2.2.2.2.2.2.2.2.2.2.2.1), ((o + 18), rr14.2.2.2.2.2.2.2.2.2.2.2.2.2.2.2.2.2.2)]) B Q o shM (2 : Int32) i_taped v16 v17 rr14.2.1 rr14.2.2.1 rr14.2.2.2.1 rr14.2.2.2.2.1 rr14.2.2.2.2.2.1 rr14.2.2.2.2.2.2.1 rr14.2.2.2.2.2.2.2.1 rr14.2.2.2.2.2.2.2.2.1 rr14.2.2.2.2.2.2.2.2.2.1 rr14.2.2.2.2.2.2.2.2.2.2.1 rr1.2 x10_0 rr14.2.2.2.2.2.2.2.2.2.2.2.1 rr14.2.2.2.2.2.2.2.2.2.2.2.2.1 rr14.2.2.2.2.2.2.2.2.2.2.2.2.2.1 rr14.2.2.2.2.2.2.2.2.2.2.2.2.2.2.1 rr14.2.2.2.2.2.2.2.2.2.2.2.2.2.2.2.1 rr14.2.2.2.2.2.2.2.2.2.2.2.2.2.2.2.2.1 rr14.2.2.2.2.2.2.2.2.2.2.2.2.2.2.2.2.2.1 rr14.2.2.2.2.2.2.2.2.2.2.2.2.2.2.2.2.2.2 (ov_get 3 rfl rfl) (ov_get 4 rfl rfl) (ov_get 5 rfl rfl) (ov_get 6 rfl rfl) (ov_get 7 rfl rfl) (ov_get 8 rfl rfl) (ov_get 9 rfl rfl) (ov_get 10 rfl rfl) (ov_get 11 rfl rfl) (ov_get 12 rfl rfl) (ova_get 1 hN_A rfl) (ova_get 2 hN_A rfl) (ova_get 3 hN_A rfl) (ova_get 4 hN_A rfl) (ova_get 5 hN_A rfl) (ova_get 6 hN_A rfl) (ova_get 7 hN_A rfl) (ova_get 8 hN_A rfl) (ova_get 9 hN_A rfl) (ova_get 10 hN_A rfl) rr18 hrr18) (cwV 4 hts gi_X14_376 rfl rfl rfl hd_X14_throwsIn ⟨Nat.le_of_ble_eq_true rfl, Nat.le_of_ble_eq_true rfl⟩) shM.1 rfl rfl hl.1 (Nat.le_of_ble_eq_true rfl) dX14_cost_166 ⟨Nat.le_refl _, Nat.le_refl _⟩ rfl (fun H locs hR hS => ?_)
          have hR : RS G K (ov I [(1100, o, (0 : Int32)), (1102, o, rr11.2), (1122, o, rr1.1), (1133, o, rr18.2.1), (1134, o, rr18.2.2.1), (1135, o, rr18.2.2.2.1), (1136, o, rr18.2.2.2.2.1), (1137, o, rr18.2.2.2.2.2.1), (1138, o, rr18.2.2.2.2.2.2.1), (1139, o, rr18.2.2.2.2.2.2.2.1), (1140, o, rr18.2.2.2.2.2.2.2.2.1), (1141, o, rr18.2.2.2.2.2.2.2.2.2.1), (1142, o, rr18.2.2.2.2.2.2.2.2.2.2.1)]) J X (ova A [((o + 1), a_tape), ((o + 2), rr1.2), ((o + 10), x10_0), ((o + 11), rr18.2.2.2.2.2.2.2.2.2.2.2.1), ((o + 12), rr18.2.2.2.2.2.2.2.2.2.2.2.2.1), ((o + 13), rr18.2.2.2.2.2.2.2.2.2.2.2.2.2.1), ((o + 14), rr18.2.2.2.2.2.2.2.2.2.2.2.2.2.2.1), ((o + 15), rr18.2.2.2.2.2.2.2.2.2.2.2.2.2.2.2.1), ((o + 16), rr18.2.2.2.2.2.2.2.2.2.2.2.2.2.2.2.2.1), ((o + 17), rr18.2.2.2.2.2.2.2.2.2.2.2.2.2.2.2.2.2.1), ((o + 18), rr18.2.2.2.2.2.2.2.2.2.2.2.2.2.2.2.2.2.2)]) B Q H := hR.to (ov_merge (l := [(1100, o, (0 : Int32)), (1102, o, rr11.2), (1122, o, rr1.1), (1133, o, rr14.2.1), (1134, o, rr14.2.2.1), (1135, o, rr14.2.2.2.1), (1136, o, rr14.2.2.2.2.1), (1137, o, rr14.2.2.2.2.2.1), (1138, o, rr14.2.2.2.2.2.2.1), (1139, o, rr14.2.2.2.2.2.2.2.1), (1140, o, rr14.2.2.2.2.2.2.2.2.1), (1141, o, rr14.2.2.2.2.2.2.2.2.2.1), (1142, o, rr14.2.2.2.2.2.2.2.2.2.2.1)]) rfl [3, 4, 5, 6, 7, 8, 9, 10, 11, 12] [(1133, o, rr18.2.1), (1134, o, rr18.2.2.1), (1135, o, rr18.2.2.2.1), (1136, o, rr18.2.2.2.2.1), (1137, o, rr18.2.2.2.2.2.1), (1138, o, rr18.2.2.2.2.2.2.1), (1139, o, rr18.2.2.2.2.2.2.2.1), (1140, o, rr18.2.2.2.2.2.2.2.2.1), (1141, o, rr18.2.2.2.2.2.2.2.2.2.1), (1142, o, rr18.2.2.2.2.2.2.2.2.2.2.1)] rfl rfl) rfl rfl (ova_merge (l := [((o + 1), a_tape), ((o + 2), rr1.2), ((o + 10), x10_0), ((o + 11), rr14.2.2.2.2.2.2.2.2.2.2.2.1), ((o + 12), rr14.2.2.2.2.2.2.2.2.2.2.2.2.1), ((o + 13), rr14.2.2.2.2.2.2.2.2.2.2.2.2.2.1), ((o + 14), rr14.2.2.2.2.2.2.2.2.2.2.2.2.2.2.1), ((o + 15), rr14.2.2.2.2.2.2.2.2.2.2.2.2.2.2.2.1), ((o + 16), rr14.2.2.2.2.2.2.2.2.2.2.2.2.2.2.2.2.1), ((o + 17), rr14.2.2.2.2.2.2.2.2.2.2.2.2.2.2.2.2.2.1), ((o + 18), rr14.2.2.2.2.2.2.2.2.2.2.2.2.2.2.2.2.2.2)]) hN_A [1, 2, 3, 4, 5, 6, 7, 8, 9, 10] [((o + 2), rr1.2), ((o + 10), x10_0), ((o + 11), rr18.2.2.2.2.2.2.2.2.2.2.2.1), ((o + 12), rr18.2.2.2.2.2.2.2.2.2.2.2.2.1), ((o + 13), rr18.2.2.2.2.2.2.2.2.2.2.2.2.2.1), ((o + 14), rr18.2.2.2.2.2.2.2.2.2.2.2.2.2.2.1), ((o + 15), rr18.2.2.2.2.2.2.2.2.2.2.2.2.2.2.2.1), ((o + 16), rr18.2.2.2.2.2.2.2.2.2.2.2.2.2.2.2.2.1), ((o + 17), rr18.2.2.2.2.2.2.2.2.2.2.2.2.2.2.2.2.2.1), ((o + 18), rr18.2.2.2.2.2.2.2.2.2.2.2.2.2.2.2.2.2.2)] rfl rfl) rfl rfl
          refine lv_istore (lv' := [(6, .int rr18.1), (5, .int rr14.1), (0, .ref o), (1, .int p1), (2, .int p2), (3, .int i_taped)]) hx hb dX14_cost_169 hl (by decide) rfl (fun ls hl => ?_)
          refine lv_iload hx hb dX14_cost_171 (lv_at hl 1 rfl) ?_
          refine lv_iload hx hb dX14_cost_173 (lv_at hl 0 rfl) ?_
          obtain ⟨v19, ev19, hf⟩ := lt_some hf
          refine n_isub hx hb ev19 dX14_cost_175 ?_
          refine lv_aload_n hx hb dX14_cost_176 rfl (lv_at hl 2 rfl) ?_
          refine lv_iconst (v := 1) hx hb dX14_cost_177 li_1 ?_
          refine lv_iload_n hx hb dX14_cost_178 rfl (lv_at hl 5 rfl) ?_
          refine lv_aload_n hx hb dX14_cost_179 rfl (lv_at hl 2 rfl) ?_
          refine g_getr (b := (o + 2)) hx hb hts hown hG hR gFx_X14_13_11 shM.1 ((shM.2 1 _ rfl).2) dX14_cost_180 ?_
          refine lv_iconst (v := 5) hx hb dX14_cost_183 li_5 ?_
          obtain ⟨c20, hf⟩ := gd_some hf
          obtain ⟨v21, ev21, hf⟩ := lt_some hf
          refine n_iald (x := rr1.2) hx hb hG hR k_a_now c20 (ova_get 1 hN_A rfl) ev21 dX14_cost_184 ?_
          refine lv_aload_n hx hb dX14_cost_185 rfl (lv_at hl 2 rfl) ?_
          refine n_geti (v := rr18.2.2.2.2.2.2.2.2.2.2.1) hx hb hts hown hG hR gFi_X14_325_11 shM.1 (ov_get 12 rfl rfl) dX14_cost_186 ?_
          obtain ⟨v22, ev22, hf⟩ := lt_some hf
          refine n_isub hx hb ev22 dX14_cost_189 ?_
          refine lv_iload_n hx hb dX14_cost_190 rfl (lv_at hl 4 rfl) ?_
          refine lv_bipush (v := 60) hx hb dX14_cost_191 lb_60 ?_
          refine lv_iload_n hx hb dX14_cost_193 rfl (lv_at hl 3 rfl) ?_
          obtain ⟨v23, ev23, hf⟩ := lt_some hf
          refine n_imul hx hb ev23 dX14_cost_194 ?_
          obtain ⟨v24, ev24, hf⟩ := lt_some hf
          refine n_isub hx hb ev24 dX14_cost_195 ?_
          obtain ⟨rr25, hrr25, hf⟩ := bind_s hf
          refine g0_cV (rm := (6, 128)) (As := [.int (1 : Int32), .int i_taped, .int v22, .int v24]) (rest := [.int v19]) ⟨hx, hb, hml, hown, hts⟩ hG hR hS (m14_throwsIn l G K (ov I [(1100, o, (0 : Int32)), (1102, o, rr11.2), (1122, o, rr1.1), (1133, o, rr18.2.1), (1134, o, rr18.2.2.1), (1135, o, rr18.2.2.2.1), (1136, o, rr18.2.2.2.2.1), (1137, o, rr18.2.2.2.2.2.1), (1138, o, rr18.2.2.2.2.2.2.1), (1139, o, rr18.2.2.2.2.2.2.2.1), (1140, o, rr18.2.2.2.2.2.2.2.2.1), (1141, o, rr18.2.2.2.2.2.2.2.2.2.1), (1142, o, rr18.2.2.2.2.2.2.2.2.2.2.1)]) J X (ova A [((o + 1), a_tape), ((o + 2), rr1.2), ((o + 10), x10_0), ((o + 11), rr18.2.2.2.2.2.2.2.2.2.2.2.1), ((o + 12), rr18.2.2.2.2.2.2.2.2.2.2.2.2.1), ((o + 13), rr18.2.2.2.2.2.2.2.2.2.2.2.2.2.1), ((o + 14), rr18.2.2.2.2.2.2.2.2.2.2.2.2.2.2.1), ((o + 15), rr18.2.2.2.2.2.2.2.2.2.2.2.2.2.2.2.1), ((o + 16), rr18.2.2.2.2.2.2.2.2.2.2.2.2.2.2.2.2.1), ((o + 17), rr18.2.2.2.2.2.2.2.2.2.2.2.2.2.2.2.2.2.1), ((o + 18), rr18.2.2.2.2.2.2.2.2.2.2.2.2.2.2.2.2.2.2)]) B Q o shM (1 : Int32) i_taped v22 v24 rr18.2.1 rr18.2.2.1 rr18.2.2.2.1 rr18.2.2.2.2.1 rr18.2.2.2.2.2.1 rr18.2.2.2.2.2.2.1 rr18.2.2.2.2.2.2.2.1 rr18.2.2.2.2.2.2.2.2.1 rr18.2.2.2.2.2.2.2.2.2.1 rr18.2.2.2.2.2.2.2.2.2.2.1 rr1.2 x10_0 rr18.2.2.2.2.2.2.2.2.2.2.2.1 rr18.2.2.2.2.2.2.2.2.2.2.2.2.1 rr18.2.2.2.2.2.2.2.2.2.2.2.2.2.1 rr18.2.2.2.2.2.2.2.2.2.2.2.2.2.2.1 rr18.2.2.2.2.2.2.2.2.2.2.2.2.2.2.2.1 rr18.2.2.2.2.2.2.2.2.2.2.2.2.2.2.2.2.1 rr18.2.2.2.2.2.2.2.2.2.2.2.2.2.2.2.2.2.1 rr18.2.2.2.2.2.2.2.2.2.2.2.2.2.2.2.2.2.2 (ov_get 3 rfl rfl) (ov_get 4 rfl rfl) (ov_get 5 rfl rfl) (ov_get 6 rfl rfl) (ov_get 7 rfl rfl) (ov_get 8 rfl rfl) (ov_get 9 rfl rfl) (ov_get 10 rfl rfl) (ov_get 11 rfl rfl) (ov_get 12 rfl rfl) (ova_get 1 hN_A rfl) (ova_get 2 hN_A rfl) (ova_get 3 hN_A rfl) (ova_get 4 hN_A rfl) (ova_get 5 hN_A rfl) (ova_get 6 hN_A rfl) (ova_get 7 hN_A rfl) (ova_get 8 hN_A rfl) (ova_get 9 hN_A rfl) (ova_get 10 hN_A rfl) rr25 hrr25) (cwV 4 hts gi_X14_376 rfl rfl rfl hd_X14_throwsIn ⟨Nat.le_of_ble_eq_true rfl, Nat.le_of_ble_eq_true rfl⟩) shM.1 rfl rfl hl.1 (Nat.le_of_ble_eq_true rfl) dX14_cost_196 ⟨Nat.le_refl _, Nat.le_refl _⟩ rfl (fun H locs hR hS => ?_)
          have hR : RS G K (ov I [(1100, o, (0 : Int32)), (1102, o, rr11.2), (1122, o, rr1.1), (1133, o, rr25.2.1), (1134, o, rr25.2.2.1), (1135, o, rr25.2.2.2.1), (1136, o, rr25.2.2.2.2.1), (1137, o, rr25.2.2.2.2.2.1), (1138, o, rr25.2.2.2.2.2.2.1), (1139, o, rr25.2.2.2.2.2.2.2.1), (1140, o, rr25.2.2.2.2.2.2.2.2.1), (1141, o, rr25.2.2.2.2.2.2.2.2.2.1), (1142, o, rr25.2.2.2.2.2.2.2.2.2.2.1)]) J X (ova A [((o + 1), a_tape), ((o + 2), rr1.2), ((o + 10), x10_0), ((o + 11), rr25.2.2.2.2.2.2.2.2.2.2.2.1), ((o + 12), rr25.2.2.2.2.2.2.2.2.2.2.2.2.1), ((o + 13), rr25.2.2.2.2.2.2.2.2.2.2.2.2.2.1), ((o + 14), rr25.2.2.2.2.2.2.2.2.2.2.2.2.2.2.1), ((o + 15), rr25.2.2.2.2.2.2.2.2.2.2.2.2.2.2.2.1), ((o + 16), rr25.2.2.2.2.2.2.2.2.2.2.2.2.2.2.2.2.1), ((o + 17), rr25.2.2.2.2.2.2.2.2.2.2.2.2.2.2.2.2.2.1), ((o + 18), rr25.2.2.2.2.2.2.2.2.2.2.2.2.2.2.2.2.2.2)]) B Q H := hR.to (ov_merge (l := [(1100, o, (0 : Int32)), (1102, o, rr11.2), (1122, o, rr1.1), (1133, o, rr18.2.1), (1134, o, rr18.2.2.1), (1135, o, rr18.2.2.2.1), (1136, o, rr18.2.2.2.2.1), (1137, o, rr18.2.2.2.2.2.1), (1138, o, rr18.2.2.2.2.2.2.1), (1139, o, rr18.2.2.2.2.2.2.2.1), (1140, o, rr18.2.2.2.2.2.2.2.2.1), (1141, o, rr18.2.2.2.2.2.2.2.2.2.1), (1142, o, rr18.2.2.2.2.2.2.2.2.2.2.1)]) rfl [3, 4, 5, 6, 7, 8, 9, 10, 11, 12] [(1133, o, rr25.2.1), (1134, o, rr25.2.2.1), (1135, o, rr25.2.2.2.1), (1136, o, rr25.2.2.2.2.1), (1137, o, rr25.2.2.2.2.2.1), (1138, o, rr25.2.2.2.2.2.2.1), (1139, o, rr25.2.2.2.2.2.2.2.1), (1140, o, rr25.2.2.2.2.2.2.2.2.1), (1141, o, rr25.2.2.2.2.2.2.2.2.2.1), (1142, o, rr25.2.2.2.2.2.2.2.2.2.2.1)] rfl rfl) rfl rfl (ova_merge (l := [((o + 1), a_tape), ((o + 2), rr1.2), ((o + 10), x10_0), ((o + 11), rr18.2.2.2.2.2.2.2.2.2.2.2.1), ((o + 12), rr18.2.2.2.2.2.2.2.2.2.2.2.2.1), ((o + 13), rr18.2.2.2.2.2.2.2.2.2.2.2.2.2.1), ((o + 14), rr18.2.2.2.2.2.2.2.2.2.2.2.2.2.2.1), ((o + 15), rr18.2.2.2.2.2.2.2.2.2.2.2.2.2.2.2.1), ((o + 16), rr18.2.2.2.2.2.2.2.2.2.2.2.2.2.2.2.2.1), ((o + 17), rr18.2.2.2.2.2.2.2.2.2.2.2.2.2.2.2.2.2.1), ((o + 18), rr18.2.2.2.2.2.2.2.2.2.2.2.2.2.2.2.2.2.2)]) hN_A [1, 2, 3, 4, 5, 6, 7, 8, 9, 10] [((o + 2), rr1.2), ((o + 10), x10_0), ((o + 11), rr25.2.2.2.2.2.2.2.2.2.2.2.1), ((o + 12), rr25.2.2.2.2.2.2.2.2.2.2.2.2.1), ((o + 13), rr25.2.2.2.2.2.2.2.2.2.2.2.2.2.1), ((o + 14), rr25.2.2.2.2.2.2.2.2.2.2.2.2.2.2.1), ((o + 15), rr25.2.2.2.2.2.2.2.2.2.2.2.2.2.2.2.1), ((o + 16), rr25.2.2.2.2.2.2.2.2.2.2.2.2.2.2.2.2.1), ((o + 17), rr25.2.2.2.2.2.2.2.2.2.2.2.2.2.2.2.2.2.1), ((o + 18), rr25.2.2.2.2.2.2.2.2.2.2.2.2.2.2.2.2.2.2)] rfl rfl) rfl rfl
          obtain ⟨v26, ev26, hf⟩ := lt_some hf
          refine n_isub hx hb ev26 dX14_cost_199 ?_
          obtain rfl := some_i hf
          exact hend _ _ _ _ dX14_cost_200 hR hS
        have hx10_1 : ∀ (x10_1 : (Nat → Int32)), f14_cost_e10_1 i_thrown i_taped i_teamMany i_teamKind i_well i_tick i_empty i_away i_litresThrown i_spilt i_pailsThrown i_drawn a_rest a_load a_done a_queue a_waits a_most a_comes a_state rr1 x10_1 = some out → ∀ (H : Heap) (locs : List Loc) (ls : Array Slot), RS G K (ov I [(1100, o, i_thrown), (1102, o, i_taped), (1122, o, rr1.1), (1133, o, i_teamMany), (1134, o, i_teamKind), (1135, o, i_well), (1136, o, i_tick), (1137, o, i_empty), (1138, o, i_away), (1139, o, i_litresThrown), (1140, o, i_spilt), (1141, o, i_pailsThrown), (1142, o, i_drawn)]) J X (ova A [((o + 1), a_tape), ((o + 2), rr1.2), ((o + 10), x10_1), ((o + 11), a_rest), ((o + 12), a_load), ((o + 13), a_done), ((o + 14), a_queue), ((o + 15), a_waits), ((o + 16), a_most), ((o + 17), a_comes), ((o + 18), a_state)]) B Q H → va_S (gA G) s.heap H locs → lv_has ls 7 [(0, .ref o)] → W p l e ({ frames := 7, cells := 0, slots := 0, locals := 153 } : Room) s m args below meth c H locs 0 0 Z (F0 m 89 ls []) := by
          intro x10_1 hf H locs ls hR hS hl
          unfold f14_cost_e10_1 at hf
          refine lv_aload_n hx hb dX14_cost_89 rfl (lv_at hl 0 rfl) ?_
          obtain ⟨rr27, hrr27, hf⟩ := bind_s hf
          refine g0_cV (rm := (0, 0)) (As := []) (rest := []) ⟨hx, hb, hml, hown, hts⟩ hG hR hS (m14_refuse l G K (ov I [(1100, o, i_thrown), (1102, o, i_taped), (1122, o, rr1.1), (1133, o, i_teamMany), (1134, o, i_teamKind), (1135, o, i_well), (1136, o, i_tick), (1137, o, i_empty), (1138, o, i_away), (1139, o, i_litresThrown), (1140, o, i_spilt), (1141, o, i_pailsThrown), (1142, o, i_drawn)]) J X (ova A [((o + 1), a_tape), ((o + 2), rr1.2), ((o + 10), x10_1), ((o + 11), a_rest), ((o + 12), a_load), ((o + 13), a_done), ((o + 14), a_queue), ((o + 15), a_waits), ((o + 16), a_most), ((o + 17), a_comes), ((o + 18), a_state)]) B Q o shM i_thrown (ov_get 0 rfl rfl) rr27 hrr27) (cwV 0 hts gi_X14_291 rfl rfl rfl hd_X14_refuse ⟨Nat.le_of_ble_eq_true rfl, Nat.le_of_ble_eq_true rfl⟩) shM.1 rfl rfl hl.1 (Nat.le_of_ble_eq_true rfl) dX14_cost_90 ⟨Nat.le_refl _, Nat.le_refl _⟩ rfl (fun H locs hR hS => ?_)
          have hR : RS G K (ov I [(1100, o, rr27.2), (1102, o, i_taped), (1122, o, rr1.1), (1133, o, i_teamMany), (1134, o, i_teamKind), (1135, o, i_well), (1136, o, i_tick), (1137, o, i_empty), (1138, o, i_away), (1139, o, i_litresThrown), (1140, o, i_spilt), (1141, o, i_pailsThrown), (1142, o, i_drawn)]) J X (ova A [((o + 1), a_tape), ((o + 2), rr1.2), ((o + 10), x10_1), ((o + 11), a_rest), ((o + 12), a_load), ((o + 13), a_done), ((o + 14), a_queue), ((o + 15), a_waits), ((o + 16), a_most), ((o + 17), a_comes), ((o + 18), a_state)]) B Q H := hR.to (ov_merge (l := [(1100, o, i_thrown), (1102, o, i_taped), (1122, o, rr1.1), (1133, o, i_teamMany), (1134, o, i_teamKind), (1135, o, i_well), (1136, o, i_tick), (1137, o, i_empty), (1138, o, i_away), (1139, o, i_litresThrown), (1140, o, i_spilt), (1141, o, i_pailsThrown), (1142, o, i_drawn)]) rfl [0] [(1100, o, rr27.2)] rfl rfl) rfl rfl rfl rfl rfl
          obtain rfl := some_i hf
          exact hend _ _ _ _ dX14_cost_93 hR hS
        refine whl_walk (P := fun (s10 : Int32 × Int32 × (Nat → Int32)) => ∀ (H : Heap) (locs : List Loc) (ls : Array Slot), RS G K (ov I [(1100, o, i_thrown), (1102, o, i_taped), (1122, o, rr1.1), (1133, o, i_teamMany), (1134, o, i_teamKind), (1135, o, i_well), (1136, o, i_tick), (1137, o, i_empty), (1138, o, i_away), (1139, o, i_litresThrown), (1140, o, i_spilt), (1141, o, i_pailsThrown), (1142, o, i_drawn)]) J X (ova A [((o + 1), a_tape), ((o + 2), rr1.2), ((o + 10), s10.2.2), ((o + 11), a_rest), ((o + 12), a_load), ((o + 13), a_done), ((o + 14), a_queue), ((o + 15), a_waits), ((o + 16), a_most), ((o + 17), a_comes), ((o + 18), a_state)]) B Q H → va_S (gA G) s.heap H locs → lv_has ls 7 [(0, .ref o), (1, .int p1), (2, .int p2), (3, .int i_taped), (4, .int s10.1), (5, .int s10.2.1)] → W p l e ({ frames := 7, cells := 0, slots := 0, locals := 153 } : Room) s m args below meth c H locs 0 0 Z (F0 m 54 ls [])) (r := rl10) ?_ FU _ hw10 _ _ _ hR hS (lv_sub hl [3, 4, 5, 2, 1, 0] rfl)
        clear hR hS hl hf
        intro s10 o10 hf hk10 H locs ls hR hS hl
        obtain ⟨w10_4, w10_5, w10_a_team⟩ := s10
        have hf : f14_cost_s10 i_taped a_tape rr1 w10_4 w10_5 w10_a_team = some o10 := hf
        have hR : RS G K (ov I [(1100, o, i_thrown), (1102, o, i_taped), (1122, o, rr1.1), (1133, o, i_teamMany), (1134, o, i_teamKind), (1135, o, i_well), (1136, o, i_tick), (1137, o, i_empty), (1138, o, i_away), (1139, o, i_litresThrown), (1140, o, i_spilt), (1141, o, i_pailsThrown), (1142, o, i_drawn)]) J X (ova A [((o + 1), a_tape), ((o + 2), rr1.2), ((o + 10), w10_a_team), ((o + 11), a_rest), ((o + 12), a_load), ((o + 13), a_done), ((o + 14), a_queue), ((o + 15), a_waits), ((o + 16), a_most), ((o + 17), a_comes), ((o + 18), a_state)]) B Q H := hR
        have hl : lv_has ls 7 [(0, .ref o), (1, .int p1), (2, .int p2), (3, .int i_taped), (4, .int w10_4), (5, .int w10_5)] := hl
        unfold f14_cost_s10 at hf
        refine lv_iload hx hb dX14_cost_54 (lv_at hl 5 rfl) ?_
        refine lv_iload_n hx hb dX14_cost_56 rfl (lv_at hl 3 rfl) ?_
        refine lv_icmp_ge (tgt := 128) hx hb dX14_cost_57 (by decide) (fun c28 => ?_) (fun c28 => ?_)
        · have hf := ite_t c28 hf
          obtain rfl := some_i hf
          replace hk10 : _ = rl10 := hk10
          subst hk10
          exact hx10_0 w10_a_team (el_l hfo10) _ _ _ hR hS (lv_sub hl [0, 1, 2, 3] rfl)
        · have hf := ite_f c28 hf
          refine lv_aload_n hx hb dX14_cost_60 rfl (lv_at hl 0 rfl) ?_
          refine g_getr (b := (o + 1)) hx hb hts hown hG hR gFx_X14_7_11 shM.1 ((shM.2 0 _ rfl).2) dX14_cost_61 ?_
          refine lv_iload hx hb dX14_cost_64 (lv_at hl 5 rfl) ?_
          obtain ⟨c29, hf⟩ := gd_some hf
          obtain ⟨v30, ev30, hf⟩ := lt_some hf
          refine n_iald (x := a_tape) hx hb hG hR k_a_tape c29 (ova_get 0 hN_A rfl) ev30 dX14_cost_66 ?_
          refine lv_aload_n hx hb dX14_cost_67 rfl (lv_at hl 0 rfl) ?_
          obtain ⟨rr31, hrr31, hf⟩ := bind_s hf
          refine g0_cV (rm := (0, 0)) (As := []) (rest := [.int v30]) ⟨hx, hb, hml, hown, hts⟩ hG hR hS (m14_men l G K (ov I [(1100, o, i_thrown), (1102, o, i_taped), (1122, o, rr1.1), (1133, o, i_teamMany), (1134, o, i_teamKind), (1135, o, i_well), (1136, o, i_tick), (1137, o, i_empty), (1138, o, i_away), (1139, o, i_litresThrown), (1140, o, i_spilt), (1141, o, i_pailsThrown), (1142, o, i_drawn)]) J X (ova A [((o + 1), a_tape), ((o + 2), rr1.2), ((o + 10), w10_a_team), ((o + 11), a_rest), ((o + 12), a_load), ((o + 13), a_done), ((o + 14), a_queue), ((o + 15), a_waits), ((o + 16), a_most), ((o + 17), a_comes), ((o + 18), a_state)]) B Q o shM rr1.2 (ova_get 1 hN_A rfl) rr31 hrr31) (cwV 0 hts gi_X14_288 rfl rfl rfl hd_X14_men ⟨Nat.le_of_ble_eq_true rfl, Nat.le_of_ble_eq_true rfl⟩) shM.1 rfl rfl hl.1 (Nat.le_of_ble_eq_true rfl) dX14_cost_68 ⟨Nat.le_refl _, Nat.le_refl _⟩ rfl (fun H locs hR hS => ?_)
          refine lv_icmp_ge (tgt := 89) hx hb dX14_cost_71 (by decide) (fun c32 => ?_) (fun c32 => ?_)
          · have hf := ite_t c32 hf
            obtain rfl := some_i hf
            replace hk10 : _ = rl10 := hk10
            subst hk10
            exact hx10_1 w10_a_team (el_r hfo10) _ _ _ hR hS (lv_sub hl [0] rfl)
          · have hf := ite_f c32 hf
            refine lv_iload hx hb dX14_cost_74 (lv_at hl 4 rfl) ?_
            refine lv_aload_n hx hb dX14_cost_76 rfl (lv_at hl 0 rfl) ?_
            refine g_getr (b := (o + 1)) hx hb hts hown hG hR gFx_X14_7_11 shM.1 ((shM.2 0 _ rfl).2) dX14_cost_77 ?_
            refine lv_iload hx hb dX14_cost_80 (lv_at hl 5 rfl) ?_
            obtain ⟨c33, hf⟩ := gd_some hf
            obtain ⟨v34, ev34, hf⟩ := lt_some hf
            refine n_iald (x := a_tape) hx hb hG hR k_a_tape c33 (ova_get 0 hN_A rfl) ev34 dX14_cost_82 ?_
            obtain ⟨rr35, hrr35, hf⟩ := bind_s hf
            refine g0_cS (rm := (0, 0)) (As := [.int w10_4, .int v34]) (rest := []) ⟨hx, hb, hml, hown, hts⟩ hG hR hS (m14_has l G K (ov I [(1100, o, i_thrown), (1102, o, i_taped), (1122, o, rr1.1), (1133, o, i_teamMany), (1134, o, i_teamKind), (1135, o, i_well), (1136, o, i_tick), (1137, o, i_empty), (1138, o, i_away), (1139, o, i_litresThrown), (1140, o, i_spilt), (1141, o, i_pailsThrown), (1142, o, i_drawn)]) J X (ova A [((o + 1), a_tape), ((o + 2), rr1.2), ((o + 10), w10_a_team), ((o + 11), a_rest), ((o + 12), a_load), ((o + 13), a_done), ((o + 14), a_queue), ((o + 15), a_waits), ((o + 16), a_most), ((o + 17), a_comes), ((o + 18), a_state)]) B Q w10_4 v34 rr35 hrr35) (cwS 2 hts gi_X14_258 rfl rfl rfl hd_X14_has ⟨Nat.le_of_ble_eq_true rfl, Nat.le_of_ble_eq_true rfl⟩) rfl hl.1 (Nat.le_of_ble_eq_true rfl) dX14_cost_83 ⟨Nat.le_refl _, Nat.le_refl _⟩ rfl (fun H locs hR hS => ?_)
            refine lv_if_eq (tgt := 94) hx hb dX14_cost_86 (by decide) (fun c36 => ?_) (fun c36 => ?_)
            · have hf := ite_t c36 hf
              refine lv_iload hx hb dX14_cost_94 (lv_at hl 4 rfl) ?_
              refine lv_iconst (v := 1) hx hb dX14_cost_96 li_1 ?_
              refine lv_aload_n hx hb dX14_cost_97 rfl (lv_at hl 0 rfl) ?_
              refine g_getr (b := (o + 1)) hx hb hts hown hG hR gFx_X14_7_11 shM.1 ((shM.2 0 _ rfl).2) dX14_cost_98 ?_
              refine lv_iload hx hb dX14_cost_101 (lv_at hl 5 rfl) ?_
              obtain ⟨c37, hf⟩ := gd_some hf
              obtain ⟨v38, ev38, hf⟩ := lt_some hf
              refine n_iald (x := a_tape) hx hb hG hR k_a_tape c37 (ova_get 0 hN_A rfl) ev38 dX14_cost_103 ?_
              obtain ⟨v39, ev39, hf⟩ := lt_some hf
              refine n_ishl hx hb ev39 dX14_cost_104 ?_
              obtain ⟨v40, ev40, hf⟩ := lt_some hf
              refine n_ior hx hb ev40 dX14_cost_105 ?_
              refine lv_istore (lv' := [(4, .int v40), (0, .ref o), (1, .int p1), (2, .int p2), (3, .int i_taped), (5, .int w10_5)]) hx hb dX14_cost_106 hl (by decide) rfl (fun ls hl => ?_)
              refine lv_aload_n hx hb dX14_cost_108 rfl (lv_at hl 1 rfl) ?_
              refine g_getr (b := (o + 10)) hx hb hts hown hG hR gFx_X14_39_11 shM.1 ((shM.2 9 _ rfl).2) dX14_cost_109 ?_
              refine lv_iload hx hb dX14_cost_112 (lv_at hl 5 rfl) ?_
              refine lv_aload_n hx hb dX14_cost_114 rfl (lv_at hl 1 rfl) ?_
              refine g_getr (b := (o + 1)) hx hb hts hown hG hR gFx_X14_7_11 shM.1 ((shM.2 0 _ rfl).2) dX14_cost_115 ?_
              refine lv_iload hx hb dX14_cost_118 (lv_at hl 5 rfl) ?_
              obtain ⟨c41, hf⟩ := gd_some hf
              obtain ⟨v42, ev42, hf⟩ := lt_some hf
              refine n_iald (x := a_tape) hx hb hG hR k_a_tape c41 (ova_get 0 hN_A rfl) ev42 dX14_cost_120 ?_
              obtain ⟨c43, hf⟩ := gd_some hf
              obtain ⟨u44, eu44, hf⟩ := lt_some hf
              refine n_iast (la' := [((o + 1), a_tape), ((o + 2), rr1.2), ((o + 10), u44), ((o + 11), a_rest), ((o + 12), a_load), ((o + 13), a_done), ((o + 14), a_queue), ((o + 15), a_waits), ((o + 16), a_most), ((o + 17), a_comes), ((o + 18), a_state)]) hx hb hG hR hS k_a_team c43 hN_A 2 rfl eu44 rfl dX14_cost_121 (fun H locs hR hS => ?_)
              obtain ⟨v45, ev45, hf⟩ := lt_some hf
              refine lv_iinc (k := 5) (v := v45) (lv' := [(5, .int v45), (4, .int v40), (0, .ref o), (1, .int p1), (2, .int p2), (3, .int i_taped)]) hx hb dX14_cost_122 hl rfl (by rw [ev45]; rfl) (by decide) rfl (fun ls hl => ?_)
              refine lv_goto (tgt := 54) hx hb dX14_cost_125 (by decide) ?_
              obtain rfl := some_i hf
              exact hk10 _ _ _ hR hS (lv_sub hl [2, 3, 4, 5, 1, 0] rfl)
            · have hf := ite_f c36 hf
              obtain rfl := some_i hf
              replace hk10 : _ = rl10 := hk10
              subst hk10
              exact hx10_1 w10_a_team (el_r hfo10) _ _ _ hR hS (lv_sub hl [0] rfl)
      · have hf := ite_t c9 hf
        exact hj43 i_thrown i_taped i_teamMany i_teamKind i_well i_tick i_empty i_away i_litresThrown i_spilt i_pailsThrown i_drawn a_team a_rest a_load a_done a_queue a_waits a_most a_comes a_state hf _ _ _ hR hS (lv_sub hl [1] rfl)
noncomputable def f14_night (p1 : Int32) (p2 : Int32) (i_thrown : Int32) (i_isBegun : Int32) (i_teamMany : Int32) (i_teamKind : Int32) (i_well : Int32) (i_tick : Int32) (i_empty : Int32) (i_away : Int32) (i_litresThrown : Int32) (i_spilt : Int32) (i_pailsThrown : Int32) (i_drawn : Int32) (i_lost : Int32) (a_now : Nat → Int32) (a_team : Nat → Int32) (a_rest : Nat → Int32) (a_load : Nat → Int32) (a_done : Nat → Int32) (a_queue : Nat → Int32) (a_waits : Nat → Int32) (a_most : Nat → Int32) (a_comes : Nat → Int32) (a_state : Nat → Int32) (a_fuel : Nat → Int32) (a_burn : Nat → Int32) (a_wet : Nat → Int32) (a_heat : Nat → Int32) (a_night : Nat → Int32) : Option (Int32 × Int32 × Int32 × Int32 × Int32 × Int32 × Int32 × Int32 × Int32 × Int32 × Int32 × Int32 × Int32 × Int32 × (Nat → Int32) × (Nat → Int32) × (Nat → Int32) × (Nat → Int32) × (Nat → Int32) × (Nat → Int32) × (Nat → Int32) × (Nat → Int32) × (Nat → Int32) × (Nat → Int32) × (Nat → Int32) × (Nat → Int32) × (Nat → Int32) × (Nat → Int32) × (Nat → Int32)) :=
  (f14_lay i_isBegun a_now).bind fun rr1 =>
  (f14_isIn p1 (0 : Int32) (59 : Int32)).bind fun rr2 =>
  if rr2 = 0 then
    some ((-1 : Int32), (0 : Int32), rr1.1, i_teamMany, i_teamKind, i_well, i_tick, i_empty, i_away, i_litresThrown, i_spilt, i_pailsThrown, i_drawn, i_lost, rr1.2, a_team, a_rest, a_load, a_done, a_queue, a_waits, a_most, a_comes, a_state, a_fuel, a_burn, a_wet, a_heat, a_night)
  else
    (f14_isIn p2 (0 : Int32) (3 : Int32)).bind fun rr4 =>
    if rr4 = 0 then
      some ((-1 : Int32), (0 : Int32), rr1.1, i_teamMany, i_teamKind, i_well, i_tick, i_empty, i_away, i_litresThrown, i_spilt, i_pailsThrown, i_drawn, i_lost, rr1.2, a_team, a_rest, a_load, a_done, a_queue, a_waits, a_most, a_comes, a_state, a_fuel, a_burn, a_wet, a_heat, a_night)
    else
      (f14_spend rr1.1 i_teamMany i_teamKind i_well i_tick i_empty i_away i_litresThrown i_spilt i_pailsThrown i_drawn i_lost rr1.2 a_team a_rest a_load a_done a_queue a_waits a_most a_comes a_state a_fuel a_burn a_wet a_heat a_night).bind fun rr6 =>
      lt ((4 : Int32) * p1) fun v7 =>
      lt (v7 + p2) fun v8 =>
      gd (inb v8 240) <|
      lt (rr6.2.2.2.2.2.2.2.2.2.2.2.2.2.2.2.2.2.2.2.2.2.2.2.2.2.2 v8.toNatClampNeg) fun v10 =>
      some (v10, (0 : Int32), rr6.1, rr6.2.1, rr6.2.2.1, rr6.2.2.2.1, rr6.2.2.2.2.1, rr6.2.2.2.2.2.1, rr6.2.2.2.2.2.2.1, rr6.2.2.2.2.2.2.2.1, rr6.2.2.2.2.2.2.2.2.1, rr6.2.2.2.2.2.2.2.2.2.1, rr6.2.2.2.2.2.2.2.2.2.2.1, rr6.2.2.2.2.2.2.2.2.2.2.2.1, rr6.2.2.2.2.2.2.2.2.2.2.2.2.1, rr6.2.2.2.2.2.2.2.2.2.2.2.2.2.1, rr6.2.2.2.2.2.2.2.2.2.2.2.2.2.2.1, rr6.2.2.2.2.2.2.2.2.2.2.2.2.2.2.2.1, rr6.2.2.2.2.2.2.2.2.2.2.2.2.2.2.2.2.1, rr6.2.2.2.2.2.2.2.2.2.2.2.2.2.2.2.2.2.1, rr6.2.2.2.2.2.2.2.2.2.2.2.2.2.2.2.2.2.2.1, rr6.2.2.2.2.2.2.2.2.2.2.2.2.2.2.2.2.2.2.2.1, rr6.2.2.2.2.2.2.2.2.2.2.2.2.2.2.2.2.2.2.2.2.1, rr6.2.2.2.2.2.2.2.2.2.2.2.2.2.2.2.2.2.2.2.2.2.1, rr6.2.2.2.2.2.2.2.2.2.2.2.2.2.2.2.2.2.2.2.2.2.2.1, rr6.2.2.2.2.2.2.2.2.2.2.2.2.2.2.2.2.2.2.2.2.2.2.2.1, rr6.2.2.2.2.2.2.2.2.2.2.2.2.2.2.2.2.2.2.2.2.2.2.2.2.1, rr6.2.2.2.2.2.2.2.2.2.2.2.2.2.2.2.2.2.2.2.2.2.2.2.2.2.1, rr6.2.2.2.2.2.2.2.2.2.2.2.2.2.2.2.2.2.2.2.2.2.2.2.2.2.2)
set_option maxHeartbeats 4000000 in
theorem m14_night (l : Launch) (G : gG) (K : gK) (I : gI) (J : gJ) (X : gX) (A : gI) (B : gJ) (Q : gX) (o : Nat) (shM : Sh K X o 11 rows11) (p1 : Int32) (p2 : Int32) (i_thrown : Int32) (i_isBegun : Int32) (i_teamMany : Int32) (i_teamKind : Int32) (i_well : Int32) (i_tick : Int32) (i_empty : Int32) (i_away : Int32) (i_litresThrown : Int32) (i_spilt : Int32) (i_pailsThrown : Int32) (i_drawn : Int32) (i_lost : Int32) (a_now : Nat → Int32) (a_team : Nat → Int32) (a_rest : Nat → Int32) (a_load : Nat → Int32) (a_done : Nat → Int32) (a_queue : Nat → Int32) (a_waits : Nat → Int32) (a_most : Nat → Int32) (a_comes : Nat → Int32) (a_state : Nat → Int32) (a_fuel : Nat → Int32) (a_burn : Nat → Int32) (a_wet : Nat → Int32) (a_heat : Nat → Int32) (a_night : Nat → Int32) (e_i_thrown : I 1100 o = i_thrown) (e_i_isBegun : I 1122 o = i_isBegun) (e_i_teamMany : I 1133 o = i_teamMany) (e_i_teamKind : I 1134 o = i_teamKind) (e_i_well : I 1135 o = i_well) (e_i_tick : I 1136 o = i_tick) (e_i_empty : I 1137 o = i_empty) (e_i_away : I 1138 o = i_away) (e_i_litresThrown : I 1139 o = i_litresThrown) (e_i_spilt : I 1140 o = i_spilt) (e_i_pailsThrown : I 1141 o = i_pailsThrown) (e_i_drawn : I 1142 o = i_drawn) (e_i_lost : I 1170 o = i_lost) (e_a_now : A (o + 2) = a_now) (e_a_team : A (o + 10) = a_team) (e_a_rest : A (o + 11) = a_rest) (e_a_load : A (o + 12) = a_load) (e_a_done : A (o + 13) = a_done) (e_a_queue : A (o + 14) = a_queue) (e_a_waits : A (o + 15) = a_waits) (e_a_most : A (o + 16) = a_most) (e_a_comes : A (o + 17) = a_comes) (e_a_state : A (o + 18) = a_state) (e_a_fuel : A (o + 32) = a_fuel) (e_a_burn : A (o + 33) = a_burn) (e_a_wet : A (o + 34) = a_wet) (e_a_heat : A (o + 35) = a_heat) (e_a_night : A (o + 43) = a_night) (out : Int32 × Int32 × Int32 × Int32 × Int32 × Int32 × Int32 × Int32 × Int32 × Int32 × Int32 × Int32 × Int32 × Int32 × (Nat → Int32) × (Nat → Int32) × (Nat → Int32) × (Nat → Int32) × (Nat → Int32) × (Nat → Int32) × (Nat → Int32) × (Nat → Int32) × (Nat → Int32) × (Nat → Int32) × (Nat → Int32) × (Nat → Int32) × (Nat → Int32) × (Nat → Int32) × (Nat → Int32)) (hf : f14_night p1 p2 i_thrown i_isBegun i_teamMany i_teamKind i_well i_tick i_empty i_away i_litresThrown i_spilt i_pailsThrown i_drawn i_lost a_now a_team a_rest a_load a_done a_queue a_waits a_most a_comes a_state a_fuel a_burn a_wet a_heat a_night = some out) : GMet l yX14_night cX14_night 3 (some .int) (7) (154) G [.ref o, .int p1, .int p2] K I J X A B Q (some (.int out.1)) K (ov I [(1100, o, out.2.1), (1122, o, out.2.2.1), (1133, o, out.2.2.2.1), (1134, o, out.2.2.2.2.1), (1135, o, out.2.2.2.2.2.1), (1136, o, out.2.2.2.2.2.2.1), (1137, o, out.2.2.2.2.2.2.2.1), (1138, o, out.2.2.2.2.2.2.2.2.1), (1139, o, out.2.2.2.2.2.2.2.2.2.1), (1140, o, out.2.2.2.2.2.2.2.2.2.2.1), (1141, o, out.2.2.2.2.2.2.2.2.2.2.2.1), (1142, o, out.2.2.2.2.2.2.2.2.2.2.2.2.1), (1170, o, out.2.2.2.2.2.2.2.2.2.2.2.2.2.1)]) J X (ova A [((o + 2), out.2.2.2.2.2.2.2.2.2.2.2.2.2.2.1), ((o + 10), out.2.2.2.2.2.2.2.2.2.2.2.2.2.2.2.1), ((o + 11), out.2.2.2.2.2.2.2.2.2.2.2.2.2.2.2.2.1), ((o + 12), out.2.2.2.2.2.2.2.2.2.2.2.2.2.2.2.2.2.1), ((o + 13), out.2.2.2.2.2.2.2.2.2.2.2.2.2.2.2.2.2.2.1), ((o + 14), out.2.2.2.2.2.2.2.2.2.2.2.2.2.2.2.2.2.2.2.1), ((o + 15), out.2.2.2.2.2.2.2.2.2.2.2.2.2.2.2.2.2.2.2.2.1), ((o + 16), out.2.2.2.2.2.2.2.2.2.2.2.2.2.2.2.2.2.2.2.2.2.1), ((o + 17), out.2.2.2.2.2.2.2.2.2.2.2.2.2.2.2.2.2.2.2.2.2.2.1), ((o + 18), out.2.2.2.2.2.2.2.2.2.2.2.2.2.2.2.2.2.2.2.2.2.2.2.1), ((o + 32), out.2.2.2.2.2.2.2.2.2.2.2.2.2.2.2.2.2.2.2.2.2.2.2.2.1), ((o + 33), out.2.2.2.2.2.2.2.2.2.2.2.2.2.2.2.2.2.2.2.2.2.2.2.2.2.1), ((o + 34), out.2.2.2.2.2.2.2.2.2.2.2.2.2.2.2.2.2.2.2.2.2.2.2.2.2.2.1), ((o + 35), out.2.2.2.2.2.2.2.2.2.2.2.2.2.2.2.2.2.2.2.2.2.2.2.2.2.2.2.1), ((o + 43), out.2.2.2.2.2.2.2.2.2.2.2.2.2.2.2.2.2.2.2.2.2.2.2.2.2.2.2.2)]) B Q 0 0 := by
  refine GMet.of (y := yX14_night) rfl (Nat.le_of_ble_eq_true rfl) rfl ?_
  intro p e s m below meth c ls hx hb hr hml hlocks hts hown hname hG hR hl
  have hown : s.vm.findClass RX14 = some m.cls := hown
  have k_a_now : K (o + 2) = some (.inr (0, 800)) := (shM.2 1 _ rfl).1
  have k_a_team : K (o + 10) = some (.inr (0, 12)) := (shM.2 9 _ rfl).1
  have k_a_rest : K (o + 11) = some (.inr (0, 12)) := (shM.2 10 _ rfl).1
  have k_a_load : K (o + 12) = some (.inr (0, 12)) := (shM.2 11 _ rfl).1
  have k_a_done : K (o + 13) = some (.inr (0, 12)) := (shM.2 12 _ rfl).1
  have k_a_queue : K (o + 14) = some (.inr (0, 360)) := (shM.2 13 _ rfl).1
  have k_a_waits : K (o + 15) = some (.inr (0, 12)) := (shM.2 14 _ rfl).1
  have k_a_most : K (o + 16) = some (.inr (0, 12)) := (shM.2 15 _ rfl).1
  have k_a_comes : K (o + 17) = some (.inr (0, 30)) := (shM.2 16 _ rfl).1
  have k_a_state : K (o + 18) = some (.inr (0, 12)) := (shM.2 17 _ rfl).1
  have k_a_fuel : K (o + 32) = some (.inr (0, 64)) := (shM.2 31 _ rfl).1
  have k_a_burn : K (o + 33) = some (.inr (0, 64)) := (shM.2 32 _ rfl).1
  have k_a_wet : K (o + 34) = some (.inr (0, 64)) := (shM.2 33 _ rfl).1
  have k_a_heat : K (o + 35) = some (.inr (0, 64)) := (shM.2 34 _ rfl).1
  have k_a_night : K (o + 43) = some (.inr (0, 240)) := (shM.2 42 _ rfl).1
  have hN_A : nda [(o + 2), (o + 10), (o + 11), (o + 12), (o + 13), (o + 14), (o + 15), (o + 16), (o + 17), (o + 18), (o + 32), (o + 33), (o + 34), (o + 35), (o + 43)] := nd_off o [2, 10, 11, 12, 13, 14, 15, 16, 17, 18, 32, 33, 34, 35, 43] rfl
  have hR : RS G K (ov I [(1100, o, i_thrown), (1122, o, i_isBegun), (1133, o, i_teamMany), (1134, o, i_teamKind), (1135, o, i_well), (1136, o, i_tick), (1137, o, i_empty), (1138, o, i_away), (1139, o, i_litresThrown), (1140, o, i_spilt), (1141, o, i_pailsThrown), (1142, o, i_drawn), (1170, o, i_lost)]) J X (ova A [((o + 2), a_now), ((o + 10), a_team), ((o + 11), a_rest), ((o + 12), a_load), ((o + 13), a_done), ((o + 14), a_queue), ((o + 15), a_waits), ((o + 16), a_most), ((o + 17), a_comes), ((o + 18), a_state), ((o + 32), a_fuel), ((o + 33), a_burn), ((o + 34), a_wet), ((o + 35), a_heat), ((o + 43), a_night)]) B Q s.heap := hR.to (Eq.symm (ov_sc e_i_thrown (ov_sc e_i_isBegun (ov_sc e_i_teamMany (ov_sc e_i_teamKind (ov_sc e_i_well (ov_sc e_i_tick (ov_sc e_i_empty (ov_sc e_i_away (ov_sc e_i_litresThrown (ov_sc e_i_spilt (ov_sc e_i_pailsThrown (ov_sc e_i_drawn (ov_sc e_i_lost rfl)))))))))))))) rfl rfl (Eq.symm (ova_sc e_a_now (ova_sc e_a_team (ova_sc e_a_rest (ova_sc e_a_load (ova_sc e_a_done (ova_sc e_a_queue (ova_sc e_a_waits (ova_sc e_a_most (ova_sc e_a_comes (ova_sc e_a_state (ova_sc e_a_fuel (ova_sc e_a_burn (ova_sc e_a_wet (ova_sc e_a_heat (ova_sc e_a_night rfl)))))))))))))))) rfl rfl
  have hS : va_S (gA G) s.heap s.heap [] := va_S.rf
  have hend : ∀ (pc : Nat) (H : Heap) (locs : List Loc) (ls : Array Slot), decode cX14_night pc = .ok (.ireturn, 1) → RS G K (ov I [(1100, o, out.2.1), (1122, o, out.2.2.1), (1133, o, out.2.2.2.1), (1134, o, out.2.2.2.2.1), (1135, o, out.2.2.2.2.2.1), (1136, o, out.2.2.2.2.2.2.1), (1137, o, out.2.2.2.2.2.2.2.1), (1138, o, out.2.2.2.2.2.2.2.2.1), (1139, o, out.2.2.2.2.2.2.2.2.2.1), (1140, o, out.2.2.2.2.2.2.2.2.2.2.1), (1141, o, out.2.2.2.2.2.2.2.2.2.2.2.1), (1142, o, out.2.2.2.2.2.2.2.2.2.2.2.2.1), (1170, o, out.2.2.2.2.2.2.2.2.2.2.2.2.2.1)]) J X (ova A [((o + 2), out.2.2.2.2.2.2.2.2.2.2.2.2.2.2.1), ((o + 10), out.2.2.2.2.2.2.2.2.2.2.2.2.2.2.2.1), ((o + 11), out.2.2.2.2.2.2.2.2.2.2.2.2.2.2.2.2.1), ((o + 12), out.2.2.2.2.2.2.2.2.2.2.2.2.2.2.2.2.2.1), ((o + 13), out.2.2.2.2.2.2.2.2.2.2.2.2.2.2.2.2.2.2.1), ((o + 14), out.2.2.2.2.2.2.2.2.2.2.2.2.2.2.2.2.2.2.2.1), ((o + 15), out.2.2.2.2.2.2.2.2.2.2.2.2.2.2.2.2.2.2.2.2.1), ((o + 16), out.2.2.2.2.2.2.2.2.2.2.2.2.2.2.2.2.2.2.2.2.2.1), ((o + 17), out.2.2.2.2.2.2.2.2.2.2.2.2.2.2.2.2.2.2.2.2.2.2.1), ((o + 18), out.2.2.2.2.2.2.2.2.2.2.2.2.2.2.2.2.2.2.2.2.2.2.2.1), ((o + 32), out.2.2.2.2.2.2.2.2.2.2.2.2.2.2.2.2.2.2.2.2.2.2.2.2.1), ((o + 33), out.2.2.2.2.2.2.2.2.2.2.2.2.2.2.2.2.2.2.2.2.2.2.2.2.2.1), ((o + 34), out.2.2.2.2.2.2.2.2.2.2.2.2.2.2.2.2.2.2.2.2.2.2.2.2.2.2.1), ((o + 35), out.2.2.2.2.2.2.2.2.2.2.2.2.2.2.2.2.2.2.2.2.2.2.2.2.2.2.2.1), ((o + 43), out.2.2.2.2.2.2.2.2.2.2.2.2.2.2.2.2.2.2.2.2.2.2.2.2.2.2.2.2)]) B Q H → va_S (gA G) s.heap H locs → W p l e ({ frames := 7, cells := 0, slots := 0, locals := 154 } : Room) s m ([.ref o, .int p1, .int p2] : List Value).toArray below meth c H locs 0 0 (MQ below (gQ G (some (.int out.1)) K (ov I [(1100, o, out.2.1), (1122, o, out.2.2.1), (1133, o, out.2.2.2.1), (1134, o, out.2.2.2.2.1), (1135, o, out.2.2.2.2.2.1), (1136, o, out.2.2.2.2.2.2.1), (1137, o, out.2.2.2.2.2.2.2.1), (1138, o, out.2.2.2.2.2.2.2.2.1), (1139, o, out.2.2.2.2.2.2.2.2.2.1), (1140, o, out.2.2.2.2.2.2.2.2.2.2.1), (1141, o, out.2.2.2.2.2.2.2.2.2.2.2.1), (1142, o, out.2.2.2.2.2.2.2.2.2.2.2.2.1), (1170, o, out.2.2.2.2.2.2.2.2.2.2.2.2.2.1)]) J X (ova A [((o + 2), out.2.2.2.2.2.2.2.2.2.2.2.2.2.2.1), ((o + 10), out.2.2.2.2.2.2.2.2.2.2.2.2.2.2.2.1), ((o + 11), out.2.2.2.2.2.2.2.2.2.2.2.2.2.2.2.2.1), ((o + 12), out.2.2.2.2.2.2.2.2.2.2.2.2.2.2.2.2.2.1), ((o + 13), out.2.2.2.2.2.2.2.2.2.2.2.2.2.2.2.2.2.2.1), ((o + 14), out.2.2.2.2.2.2.2.2.2.2.2.2.2.2.2.2.2.2.2.1), ((o + 15), out.2.2.2.2.2.2.2.2.2.2.2.2.2.2.2.2.2.2.2.2.1), ((o + 16), out.2.2.2.2.2.2.2.2.2.2.2.2.2.2.2.2.2.2.2.2.2.1), ((o + 17), out.2.2.2.2.2.2.2.2.2.2.2.2.2.2.2.2.2.2.2.2.2.2.1), ((o + 18), out.2.2.2.2.2.2.2.2.2.2.2.2.2.2.2.2.2.2.2.2.2.2.2.1), ((o + 32), out.2.2.2.2.2.2.2.2.2.2.2.2.2.2.2.2.2.2.2.2.2.2.2.2.1), ((o + 33), out.2.2.2.2.2.2.2.2.2.2.2.2.2.2.2.2.2.2.2.2.2.2.2.2.2.1), ((o + 34), out.2.2.2.2.2.2.2.2.2.2.2.2.2.2.2.2.2.2.2.2.2.2.2.2.2.2.1), ((o + 35), out.2.2.2.2.2.2.2.2.2.2.2.2.2.2.2.2.2.2.2.2.2.2.2.2.2.2.2.1), ((o + 43), out.2.2.2.2.2.2.2.2.2.2.2.2.2.2.2.2.2.2.2.2.2.2.2.2.2.2.2.2)]) B Q) ([.ref o, .int p1, .int p2] : List Value).toArray s 0 0 (gA G)) (F0 m pc ls [.int out.1]) := fun pc H locs ls hd hR hS => g_iret hx hb hr hlocks hG hR hS rfl hd
  generalize MQ below (gQ G (some (.int out.1)) K (ov I [(1100, o, out.2.1), (1122, o, out.2.2.1), (1133, o, out.2.2.2.1), (1134, o, out.2.2.2.2.1), (1135, o, out.2.2.2.2.2.1), (1136, o, out.2.2.2.2.2.2.1), (1137, o, out.2.2.2.2.2.2.2.1), (1138, o, out.2.2.2.2.2.2.2.2.1), (1139, o, out.2.2.2.2.2.2.2.2.2.1), (1140, o, out.2.2.2.2.2.2.2.2.2.2.1), (1141, o, out.2.2.2.2.2.2.2.2.2.2.2.1), (1142, o, out.2.2.2.2.2.2.2.2.2.2.2.2.1), (1170, o, out.2.2.2.2.2.2.2.2.2.2.2.2.2.1)]) J X (ova A [((o + 2), out.2.2.2.2.2.2.2.2.2.2.2.2.2.2.1), ((o + 10), out.2.2.2.2.2.2.2.2.2.2.2.2.2.2.2.1), ((o + 11), out.2.2.2.2.2.2.2.2.2.2.2.2.2.2.2.2.1), ((o + 12), out.2.2.2.2.2.2.2.2.2.2.2.2.2.2.2.2.2.1), ((o + 13), out.2.2.2.2.2.2.2.2.2.2.2.2.2.2.2.2.2.2.1), ((o + 14), out.2.2.2.2.2.2.2.2.2.2.2.2.2.2.2.2.2.2.2.1), ((o + 15), out.2.2.2.2.2.2.2.2.2.2.2.2.2.2.2.2.2.2.2.2.1), ((o + 16), out.2.2.2.2.2.2.2.2.2.2.2.2.2.2.2.2.2.2.2.2.2.1), ((o + 17), out.2.2.2.2.2.2.2.2.2.2.2.2.2.2.2.2.2.2.2.2.2.2.1), ((o + 18), out.2.2.2.2.2.2.2.2.2.2.2.2.2.2.2.2.2.2.2.2.2.2.2.1), ((o + 32), out.2.2.2.2.2.2.2.2.2.2.2.2.2.2.2.2.2.2.2.2.2.2.2.2.1), ((o + 33), out.2.2.2.2.2.2.2.2.2.2.2.2.2.2.2.2.2.2.2.2.2.2.2.2.2.1), ((o + 34), out.2.2.2.2.2.2.2.2.2.2.2.2.2.2.2.2.2.2.2.2.2.2.2.2.2.2.1), ((o + 35), out.2.2.2.2.2.2.2.2.2.2.2.2.2.2.2.2.2.2.2.2.2.2.2.2.2.2.2.1), ((o + 43), out.2.2.2.2.2.2.2.2.2.2.2.2.2.2.2.2.2.2.2.2.2.2.2.2.2.2.2.2)]) B Q) ([.ref o, .int p1, .int p2] : List Value).toArray s 0 0 (gA G) = Z at hend ⊢
  generalize ([.ref o, .int p1, .int p2] : List Value).toArray = args at hts hend ⊢
  unfold f14_night at hf
  refine lv_aload_n hx hb dX14_night_0 rfl (lv_at hl 0 rfl) ?_
  refine lv_iconst (v := 0) hx hb dX14_night_1 li_0 ?_
  refine n_puti (li' := [(1100, o, (0 : Int32)), (1122, o, i_isBegun), (1133, o, i_teamMany), (1134, o, i_teamKind), (1135, o, i_well), (1136, o, i_tick), (1137, o, i_empty), (1138, o, i_away), (1139, o, i_litresThrown), (1140, o, i_spilt), (1141, o, i_pailsThrown), (1142, o, i_drawn), (1170, o, i_lost)]) hx hb hts hown hG hR hS gPi_X14_148_11 shM.1 0 rfl rfl rfl dX14_night_2 (fun H locs hR hS => ?_)
  refine lv_aload_n hx hb dX14_night_5 rfl (lv_at hl 0 rfl) ?_
  obtain ⟨rr1, hrr1, hf⟩ := bind_s hf
  refine g0_cVv (rm := (1, 21)) (As := []) (rest := []) ⟨hx, hb, hml, hown, hts⟩ hG hR hS (m14_lay l G K (ov I [(1100, o, (0 : Int32)), (1122, o, i_isBegun), (1133, o, i_teamMany), (1134, o, i_teamKind), (1135, o, i_well), (1136, o, i_tick), (1137, o, i_empty), (1138, o, i_away), (1139, o, i_litresThrown), (1140, o, i_spilt), (1141, o, i_pailsThrown), (1142, o, i_drawn), (1170, o, i_lost)]) J X (ova A [((o + 2), a_now), ((o + 10), a_team), ((o + 11), a_rest), ((o + 12), a_load), ((o + 13), a_done), ((o + 14), a_queue), ((o + 15), a_waits), ((o + 16), a_most), ((o + 17), a_comes), ((o + 18), a_state), ((o + 32), a_fuel), ((o + 33), a_burn), ((o + 34), a_wet), ((o + 35), a_heat), ((o + 43), a_night)]) B Q o shM i_isBegun a_now (ov_get 1 rfl rfl) (ova_get 0 hN_A rfl) rr1 hrr1) (cwV 0 hts gi_X14_232 rfl rfl rfl hd_X14_lay ⟨Nat.le_of_ble_eq_true rfl, Nat.le_of_ble_eq_true rfl⟩) shM.1 rfl rfl hl.1 (Nat.le_of_ble_eq_true rfl) dX14_night_6 ⟨Nat.le_refl _, Nat.le_refl _⟩ rfl (fun H locs hR hS => ?_)
  have hR : RS G K (ov I [(1100, o, (0 : Int32)), (1122, o, rr1.1), (1133, o, i_teamMany), (1134, o, i_teamKind), (1135, o, i_well), (1136, o, i_tick), (1137, o, i_empty), (1138, o, i_away), (1139, o, i_litresThrown), (1140, o, i_spilt), (1141, o, i_pailsThrown), (1142, o, i_drawn), (1170, o, i_lost)]) J X (ova A [((o + 2), rr1.2), ((o + 10), a_team), ((o + 11), a_rest), ((o + 12), a_load), ((o + 13), a_done), ((o + 14), a_queue), ((o + 15), a_waits), ((o + 16), a_most), ((o + 17), a_comes), ((o + 18), a_state), ((o + 32), a_fuel), ((o + 33), a_burn), ((o + 34), a_wet), ((o + 35), a_heat), ((o + 43), a_night)]) B Q H := hR.to (ov_merge (l := [(1100, o, (0 : Int32)), (1122, o, i_isBegun), (1133, o, i_teamMany), (1134, o, i_teamKind), (1135, o, i_well), (1136, o, i_tick), (1137, o, i_empty), (1138, o, i_away), (1139, o, i_litresThrown), (1140, o, i_spilt), (1141, o, i_pailsThrown), (1142, o, i_drawn), (1170, o, i_lost)]) rfl [1] [(1122, o, rr1.1)] rfl rfl) rfl rfl (ova_merge (l := [((o + 2), a_now), ((o + 10), a_team), ((o + 11), a_rest), ((o + 12), a_load), ((o + 13), a_done), ((o + 14), a_queue), ((o + 15), a_waits), ((o + 16), a_most), ((o + 17), a_comes), ((o + 18), a_state), ((o + 32), a_fuel), ((o + 33), a_burn), ((o + 34), a_wet), ((o + 35), a_heat), ((o + 43), a_night)]) hN_A [0] [((o + 2), rr1.2)] rfl rfl) rfl rfl
  refine lv_iload_n hx hb dX14_night_9 rfl (lv_at hl 1 rfl) ?_
  refine lv_iconst (v := 0) hx hb dX14_night_10 li_0 ?_
  refine lv_bipush (v := 59) hx hb dX14_night_11 lb_59 ?_
  obtain ⟨rr2, hrr2, hf⟩ := bind_s hf
  refine g0_cS (rm := (0, 0)) (As := [.int p1, .int (0 : Int32), .int (59 : Int32)]) (rest := []) ⟨hx, hb, hml, hown, hts⟩ hG hR hS (m14_isIn l G K (ov I [(1100, o, (0 : Int32)), (1122, o, rr1.1), (1133, o, i_teamMany), (1134, o, i_teamKind), (1135, o, i_well), (1136, o, i_tick), (1137, o, i_empty), (1138, o, i_away), (1139, o, i_litresThrown), (1140, o, i_spilt), (1141, o, i_pailsThrown), (1142, o, i_drawn), (1170, o, i_lost)]) J X (ova A [((o + 2), rr1.2), ((o + 10), a_team), ((o + 11), a_rest), ((o + 12), a_load), ((o + 13), a_done), ((o + 14), a_queue), ((o + 15), a_waits), ((o + 16), a_most), ((o + 17), a_comes), ((o + 18), a_state), ((o + 32), a_fuel), ((o + 33), a_burn), ((o + 34), a_wet), ((o + 35), a_heat), ((o + 43), a_night)]) B Q p1 (0 : Int32) (59 : Int32) rr2 hrr2) (cwS 3 hts gi_X14_219 rfl rfl rfl hd_X14_isIn ⟨Nat.le_of_ble_eq_true rfl, Nat.le_of_ble_eq_true rfl⟩) rfl hl.1 (Nat.le_of_ble_eq_true rfl) dX14_night_13 ⟨Nat.le_refl _, Nat.le_refl _⟩ rfl (fun H locs hR hS => ?_)
  refine lv_if_eq (tgt := 28) hx hb dX14_night_16 (by decide) (fun c3 => ?_) (fun c3 => ?_)
  · have hf := ite_t c3 hf
    refine lv_iconst (v := -1) hx hb dX14_night_28 li_m1 ?_
    obtain rfl := some_i hf
    exact hend _ _ _ _ dX14_night_29 hR hS
  · have hf := ite_f c3 hf
    refine lv_iload_n hx hb dX14_night_19 rfl (lv_at hl 2 rfl) ?_
    refine lv_iconst (v := 0) hx hb dX14_night_20 li_0 ?_
    refine lv_iconst (v := 3) hx hb dX14_night_21 li_3 ?_
    obtain ⟨rr4, hrr4, hf⟩ := bind_s hf
    refine g0_cS (rm := (0, 0)) (As := [.int p2, .int (0 : Int32), .int (3 : Int32)]) (rest := []) ⟨hx, hb, hml, hown, hts⟩ hG hR hS (m14_isIn l G K (ov I [(1100, o, (0 : Int32)), (1122, o, rr1.1), (1133, o, i_teamMany), (1134, o, i_teamKind), (1135, o, i_well), (1136, o, i_tick), (1137, o, i_empty), (1138, o, i_away), (1139, o, i_litresThrown), (1140, o, i_spilt), (1141, o, i_pailsThrown), (1142, o, i_drawn), (1170, o, i_lost)]) J X (ova A [((o + 2), rr1.2), ((o + 10), a_team), ((o + 11), a_rest), ((o + 12), a_load), ((o + 13), a_done), ((o + 14), a_queue), ((o + 15), a_waits), ((o + 16), a_most), ((o + 17), a_comes), ((o + 18), a_state), ((o + 32), a_fuel), ((o + 33), a_burn), ((o + 34), a_wet), ((o + 35), a_heat), ((o + 43), a_night)]) B Q p2 (0 : Int32) (3 : Int32) rr4 hrr4) (cwS 3 hts gi_X14_219 rfl rfl rfl hd_X14_isIn ⟨Nat.le_of_ble_eq_true rfl, Nat.le_of_ble_eq_true rfl⟩) rfl hl.1 (Nat.le_of_ble_eq_true rfl) dX14_night_22 ⟨Nat.le_refl _, Nat.le_refl _⟩ rfl (fun H locs hR hS => ?_)
    refine lv_if_ne (tgt := 30) hx hb dX14_night_25 (by decide) (fun c5 => ?_) (fun c5 => ?_)
    · have hf := ite_f c5 hf
      refine lv_aload_n hx hb dX14_night_30 rfl (lv_at hl 0 rfl) ?_
      obtain ⟨rr6, hrr6, hf⟩ := bind_s hf
      refine g0_cVv (rm := (6, 128)) (As := []) (rest := []) ⟨hx, hb, hml, hown, hts⟩ hG hR hS (m14_spend l G K (ov I [(1100, o, (0 : Int32)), (1122, o, rr1.1), (1133, o, i_teamMany), (1134, o, i_teamKind), (1135, o, i_well), (1136, o, i_tick), (1137, o, i_empty), (1138, o, i_away), (1139, o, i_litresThrown), (1140, o, i_spilt), (1141, o, i_pailsThrown), (1142, o, i_drawn), (1170, o, i_lost)]) J X (ova A [((o + 2), rr1.2), ((o + 10), a_team), ((o + 11), a_rest), ((o + 12), a_load), ((o + 13), a_done), ((o + 14), a_queue), ((o + 15), a_waits), ((o + 16), a_most), ((o + 17), a_comes), ((o + 18), a_state), ((o + 32), a_fuel), ((o + 33), a_burn), ((o + 34), a_wet), ((o + 35), a_heat), ((o + 43), a_night)]) B Q o shM rr1.1 i_teamMany i_teamKind i_well i_tick i_empty i_away i_litresThrown i_spilt i_pailsThrown i_drawn i_lost rr1.2 a_team a_rest a_load a_done a_queue a_waits a_most a_comes a_state a_fuel a_burn a_wet a_heat a_night (ov_get 1 rfl rfl) (ov_get 2 rfl rfl) (ov_get 3 rfl rfl) (ov_get 4 rfl rfl) (ov_get 5 rfl rfl) (ov_get 6 rfl rfl) (ov_get 7 rfl rfl) (ov_get 8 rfl rfl) (ov_get 9 rfl rfl) (ov_get 10 rfl rfl) (ov_get 11 rfl rfl) (ov_get 12 rfl rfl) (ova_get 0 hN_A rfl) (ova_get 1 hN_A rfl) (ova_get 2 hN_A rfl) (ova_get 3 hN_A rfl) (ova_get 4 hN_A rfl) (ova_get 5 hN_A rfl) (ova_get 6 hN_A rfl) (ova_get 7 hN_A rfl) (ova_get 8 hN_A rfl) (ova_get 9 hN_A rfl) (ova_get 10 hN_A rfl) (ova_get 11 hN_A rfl) (ova_get 12 hN_A rfl) (ova_get 13 hN_A rfl) (ova_get 14 hN_A rfl) rr6 hrr6) (cwV 0 hts gi_X14_500 rfl rfl rfl hd_X14_spend ⟨Nat.le_of_ble_eq_true rfl, Nat.le_of_ble_eq_true rfl⟩) shM.1 rfl rfl hl.1 (Nat.le_of_ble_eq_true rfl) dX14_night_31 ⟨Nat.le_refl _, Nat.le_refl _⟩ rfl (fun H locs hR hS => ?_)
      have hR : RS G K (ov I [(1100, o, (0 : Int32)), (1122, o, rr6.1), (1133, o, rr6.2.1), (1134, o, rr6.2.2.1), (1135, o, rr6.2.2.2.1), (1136, o, rr6.2.2.2.2.1), (1137, o, rr6.2.2.2.2.2.1), (1138, o, rr6.2.2.2.2.2.2.1), (1139, o, rr6.2.2.2.2.2.2.2.1), (1140, o, rr6.2.2.2.2.2.2.2.2.1), (1141, o, rr6.2.2.2.2.2.2.2.2.2.1), (1142, o, rr6.2.2.2.2.2.2.2.2.2.2.1), (1170, o, rr6.2.2.2.2.2.2.2.2.2.2.2.1)]) J X (ova A [((o + 2), rr6.2.2.2.2.2.2.2.2.2.2.2.2.1), ((o + 10), rr6.2.2.2.2.2.2.2.2.2.2.2.2.2.1), ((o + 11), rr6.2.2.2.2.2.2.2.2.2.2.2.2.2.2.1), ((o + 12), rr6.2.2.2.2.2.2.2.2.2.2.2.2.2.2.2.1), ((o + 13), rr6.2.2.2.2.2.2.2.2.2.2.2.2.2.2.2.2.1), ((o + 14), rr6.2.2.2.2.2.2.2.2.2.2.2.2.2.2.2.2.2.1), ((o + 15), rr6.2.2.2.2.2.2.2.2.2.2.2.2.2.2.2.2.2.2.1), ((o + 16), rr6.2.2.2.2.2.2.2.2.2.2.2.2.2.2.2.2.2.2.2.1), ((o + 17), rr6.2.2.2.2.2.2.2.2.2.2.2.2.2.2.2.2.2.2.2.2.1), ((o + 18), rr6.2.2.2.2.2.2.2.2.2.2.2.2.2.2.2.2.2.2.2.2.2.1), ((o + 32), rr6.2.2.2.2.2.2.2.2.2.2.2.2.2.2.2.2.2.2.2.2.2.2.1), ((o + 33), rr6.2.2.2.2.2.2.2.2.2.2.2.2.2.2.2.2.2.2.2.2.2.2.2.1), ((o + 34), rr6.2.2.2.2.2.2.2.2.2.2.2.2.2.2.2.2.2.2.2.2.2.2.2.2.1), ((o + 35), rr6.2.2.2.2.2.2.2.2.2.2.2.2.2.2.2.2.2.2.2.2.2.2.2.2.2.1), ((o + 43), rr6.2.2.2.2.2.2.2.2.2.2.2.2.2.2.2.2.2.2.2.2.2.2.2.2.2.2)]) B Q H := hR.to (ov_merge (l := [(1100, o, (0 : Int32)), (1122, o, rr1.1), (1133, o, i_teamMany), (1134, o, i_teamKind), (1135, o, i_well), (1136, o, i_tick), (1137, o, i_empty), (1138, o, i_away), (1139, o, i_litresThrown), (1140, o, i_spilt), (1141, o, i_pailsThrown), (1142, o, i_drawn), (1170, o, i_lost)]) rfl [1, 2, 3, 4, 5, 6, 7, 8, 9, 10, 11, 12] [(1122, o, rr6.1), (1133, o, rr6.2.1), (1134, o, rr6.2.2.1), (1135, o, rr6.2.2.2.1), (1136, o, rr6.2.2.2.2.1), (1137, o, rr6.2.2.2.2.2.1), (1138, o, rr6.2.2.2.2.2.2.1), (1139, o, rr6.2.2.2.2.2.2.2.1), (1140, o, rr6.2.2.2.2.2.2.2.2.1), (1141, o, rr6.2.2.2.2.2.2.2.2.2.1), (1142, o, rr6.2.2.2.2.2.2.2.2.2.2.1), (1170, o, rr6.2.2.2.2.2.2.2.2.2.2.2.1)] rfl rfl) rfl rfl (ova_merge (l := [((o + 2), rr1.2), ((o + 10), a_team), ((o + 11), a_rest), ((o + 12), a_load), ((o + 13), a_done), ((o + 14), a_queue), ((o + 15), a_waits), ((o + 16), a_most), ((o + 17), a_comes), ((o + 18), a_state), ((o + 32), a_fuel), ((o + 33), a_burn), ((o + 34), a_wet), ((o + 35), a_heat), ((o + 43), a_night)]) hN_A [0, 1, 2, 3, 4, 5, 6, 7, 8, 9, 10, 11, 12, 13, 14] [((o + 2), rr6.2.2.2.2.2.2.2.2.2.2.2.2.1), ((o + 10), rr6.2.2.2.2.2.2.2.2.2.2.2.2.2.1), ((o + 11), rr6.2.2.2.2.2.2.2.2.2.2.2.2.2.2.1), ((o + 12), rr6.2.2.2.2.2.2.2.2.2.2.2.2.2.2.2.1), ((o + 13), rr6.2.2.2.2.2.2.2.2.2.2.2.2.2.2.2.2.1), ((o + 14), rr6.2.2.2.2.2.2.2.2.2.2.2.2.2.2.2.2.2.1), ((o + 15), rr6.2.2.2.2.2.2.2.2.2.2.2.2.2.2.2.2.2.2.1), ((o + 16), rr6.2.2.2.2.2.2.2.2.2.2.2.2.2.2.2.2.2.2.2.1), ((o + 17), rr6.2.2.2.2.2.2.2.2.2.2.2.2.2.2.2.2.2.2.2.2.1), ((o + 18), rr6.2.2.2.2.2.2.2.2.2.2.2.2.2.2.2.2.2.2.2.2.2.1), ((o + 32), rr6.2.2.2.2.2.2.2.2.2.2.2.2.2.2.2.2.2.2.2.2.2.2.1), ((o + 33), rr6.2.2.2.2.2.2.2.2.2.2.2.2.2.2.2.2.2.2.2.2.2.2.2.1), ((o + 34), rr6.2.2.2.2.2.2.2.2.2.2.2.2.2.2.2.2.2.2.2.2.2.2.2.2.1), ((o + 35), rr6.2.2.2.2.2.2.2.2.2.2.2.2.2.2.2.2.2.2.2.2.2.2.2.2.2.1), ((o + 43), rr6.2.2.2.2.2.2.2.2.2.2.2.2.2.2.2.2.2.2.2.2.2.2.2.2.2.2)] rfl rfl) rfl rfl
      refine lv_aload_n hx hb dX14_night_34 rfl (lv_at hl 0 rfl) ?_
      refine g_getr (b := (o + 43)) hx hb hts hown hG hR gFx_X14_142_11 shM.1 ((shM.2 42 _ rfl).2) dX14_night_35 ?_
      refine lv_iconst (v := 4) hx hb dX14_night_38 li_4 ?_
      refine lv_iload_n hx hb dX14_night_39 rfl (lv_at hl 1 rfl) ?_
      obtain ⟨v7, ev7, hf⟩ := lt_some hf
      refine n_imul hx hb ev7 dX14_night_40 ?_
      refine lv_iload_n hx hb dX14_night_41 rfl (lv_at hl 2 rfl) ?_
      obtain ⟨v8, ev8, hf⟩ := lt_some hf
      refine n_iadd hx hb ev8 dX14_night_42 ?_
      obtain ⟨c9, hf⟩ := gd_some hf
      obtain ⟨v10, ev10, hf⟩ := lt_some hf
      refine n_iald (x := rr6.2.2.2.2.2.2.2.2.2.2.2.2.2.2.2.2.2.2.2.2.2.2.2.2.2.2) hx hb hG hR k_a_night c9 (ova_get 14 hN_A rfl) ev10 dX14_night_43 ?_
      obtain rfl := some_i hf
      exact hend _ _ _ _ dX14_night_44 hR hS
    · have hf := ite_t c5 hf
      refine lv_iconst (v := -1) hx hb dX14_night_28 li_m1 ?_
      obtain rfl := some_i hf
      exact hend _ _ _ _ dX14_night_29 hR hS
noncomputable def f14_row_e8_0 (a_rowBy : Nat → Int32) (rr1 : Int32 × Int32 × Int32 × Int32 × (Nat → Int32) × (Nat → Int32)) (rr7 : Int32 × Int32 × Int32 × Int32 × Int32 × Int32 × Int32 × Int32 × Int32 × Int32 × Int32 × (Nat → Int32) × (Nat → Int32) × (Nat → Int32) × (Nat → Int32) × (Nat → Int32) × (Nat → Int32) × (Nat → Int32) × (Nat → Int32)) (x8_0 : Int32 × Int32 × Int32 × (Nat → Int32)) : Option (Int32 × Int32 × Int32 × Int32 × Int32 × Int32 × Int32 × Int32 × Int32 × Int32 × Int32 × Int32 × Int32 × Int32 × Int32 × (Nat → Int32) × (Nat → Int32) × (Nat → Int32) × (Nat → Int32) × (Nat → Int32) × (Nat → Int32) × (Nat → Int32) × (Nat → Int32) × (Nat → Int32) × (Nat → Int32) × (Nat → Int32) × (Nat → Int32)) :=
  gd (inb (0 : Int32) 6) <|
  lt (upd a_rowBy (0 : Int32).toNatClampNeg x8_0.1) fun u10 =>
  gd (inb (1 : Int32) 6) <|
  lt (upd u10 (1 : Int32).toNatClampNeg x8_0.2.1) fun u12 =>
  gd (inb (2 : Int32) 6) <|
  lt (upd u12 (2 : Int32).toNatClampNeg rr7.2.2.2.2.2.2.2.2.2.2.1) fun u14 =>
  gd (inb (3 : Int32) 6) <|
  lt (upd u14 (3 : Int32).toNatClampNeg rr7.2.2.2.2.2.2.2.2.1) fun u16 =>
  gd (inb (4 : Int32) 6) <|
  lt (upd u16 (4 : Int32).toNatClampNeg rr7.2.2.2.2.2.2.2.2.2.1) fun u18 =>
  gd (inb (5 : Int32) 6) <|
  lt (upd u18 (5 : Int32).toNatClampNeg x8_0.2.2.1) fun u20 =>
  some (rr7.1, (0 : Int32), rr1.2.1, rr1.2.2.1, rr7.2.1, rr7.2.2.1, rr7.2.2.2.1, rr7.2.2.2.2.1, rr7.2.2.2.2.2.1, rr7.2.2.2.2.2.2.1, rr7.2.2.2.2.2.2.2.1, rr7.2.2.2.2.2.2.2.2.1, rr7.2.2.2.2.2.2.2.2.2.1, rr7.2.2.2.2.2.2.2.2.2.2.1, rr7.2.1, rr1.2.2.2.2.1, rr1.2.2.2.2.2, rr7.2.2.2.2.2.2.2.2.2.2.2.1, rr7.2.2.2.2.2.2.2.2.2.2.2.2.1, rr7.2.2.2.2.2.2.2.2.2.2.2.2.2.1, rr7.2.2.2.2.2.2.2.2.2.2.2.2.2.2.1, rr7.2.2.2.2.2.2.2.2.2.2.2.2.2.2.2.1, rr7.2.2.2.2.2.2.2.2.2.2.2.2.2.2.2.2.1, rr7.2.2.2.2.2.2.2.2.2.2.2.2.2.2.2.2.2.1, rr7.2.2.2.2.2.2.2.2.2.2.2.2.2.2.2.2.2.2, u20, x8_0.2.2.2)

noncomputable def f14_row_e27_0 (rr7 : Int32 × Int32 × Int32 × Int32 × Int32 × Int32 × Int32 × Int32 × Int32 × Int32 × Int32 × (Nat → Int32) × (Nat → Int32) × (Nat → Int32) × (Nat → Int32) × (Nat → Int32) × (Nat → Int32) × (Nat → Int32) × (Nat → Int32)) (w8_6 : Int32) (w8_a_rowDone : Nat → Int32) (j89_3 : Int32) (j89_4 : Int32) (x27_0 : Int32) : Option ((Int32 × Int32 × Int32 × Int32 × (Nat → Int32)) ⊕ (Int32 × Int32 × Int32 × (Nat → Int32))) :=
  gd (inb w8_6 12) <|
  lt (rr7.2.2.2.2.2.2.2.2.2.2.2.2.2.1 w8_6.toNatClampNeg) fun v29 =>
  gd (inb w8_6 12) <|
  lt (upd w8_a_rowDone w8_6.toNatClampNeg v29) fun u31 =>
  lt (w8_6 + (1 : Int32)) fun v32 =>
  some (.inl (j89_3, j89_4, x27_0, v32, u31))

noncomputable def f14_row_s27 (rr7 : Int32 × Int32 × Int32 × Int32 × Int32 × Int32 × Int32 × Int32 × Int32 × Int32 × Int32 × (Nat → Int32) × (Nat → Int32) × (Nat → Int32) × (Nat → Int32) × (Nat → Int32) × (Nat → Int32) × (Nat → Int32) × (Nat → Int32)) (w8_6 : Int32) (w27_5 : Int32) (w27_7 : Int32) : Option ((Int32 × Int32) ⊕ (Int32)) :=
  gd (inb w8_6 12) <|
  lt (rr7.2.2.2.2.2.2.2.2.2.2.2.2.2.2.2.1 w8_6.toNatClampNeg) fun v34 =>
  if v34 ≤ w27_7 then
    some (.inr w27_5)
  else
    lt ((30 : Int32) * w8_6) fun v36 =>
    lt (v36 + w27_7) fun v37 =>
    gd (inb v37 360) <|
    lt (rr7.2.2.2.2.2.2.2.2.2.2.2.2.2.2.1 v37.toNatClampNeg) fun v39 =>
    lt (w27_5 + v39) fun v40 =>
    lt (w27_7 + (1 : Int32)) fun v41 =>
    some (.inl (v40, v41))

noncomputable def f14_row_j89 (rr7 : Int32 × Int32 × Int32 × Int32 × Int32 × Int32 × Int32 × Int32 × Int32 × Int32 × Int32 × (Nat → Int32) × (Nat → Int32) × (Nat → Int32) × (Nat → Int32) × (Nat → Int32) × (Nat → Int32) × (Nat → Int32) × (Nat → Int32)) (w8_5 : Int32) (w8_6 : Int32) (w8_a_rowDone : Nat → Int32) (j89_3 : Int32) (j89_4 : Int32) : Option ((Int32 × Int32 × Int32 × Int32 × (Nat → Int32)) ⊕ (Int32 × Int32 × Int32 × (Nat → Int32))) :=
  gd (inb w8_6 12) <|
  lt (rr7.2.2.2.2.2.2.2.2.2.2.2.2.1 w8_6.toNatClampNeg) fun v25 =>
  lt (w8_5 + v25) fun v26 =>
  (whl (fun (s27 : Int32 × Int32) => f14_row_s27 rr7 w8_6 s27.1 s27.2) FU (v26, (0 : Int32))).bind fun rl27 =>
  f14_row_e27_0 rr7 w8_6 w8_a_rowDone j89_3 j89_4 rl27

noncomputable def f14_row_s8 (rr7 : Int32 × Int32 × Int32 × Int32 × Int32 × Int32 × Int32 × Int32 × Int32 × Int32 × Int32 × (Nat → Int32) × (Nat → Int32) × (Nat → Int32) × (Nat → Int32) × (Nat → Int32) × (Nat → Int32) × (Nat → Int32) × (Nat → Int32)) (w8_3 : Int32) (w8_4 : Int32) (w8_5 : Int32) (w8_6 : Int32) (w8_a_rowDone : Nat → Int32) : Option ((Int32 × Int32 × Int32 × Int32 × (Nat → Int32)) ⊕ (Int32 × Int32 × Int32 × (Nat → Int32))) :=
  if rr7.2.1 ≤ w8_6 then
    some (.inr (w8_3, w8_4, w8_5, w8_a_rowDone))
  else
    gd (inb w8_6 12) <|
    lt (rr7.2.2.2.2.2.2.2.2.2.2.2.2.2.2.2.2.1 w8_6.toNatClampNeg) fun v23 =>
    if v23 ≤ w8_3 then
      f14_row_j89 rr7 w8_5 w8_6 w8_a_rowDone w8_3 w8_4
    else
      gd (inb w8_6 12) <|
      lt (rr7.2.2.2.2.2.2.2.2.2.2.2.2.2.2.2.2.1 w8_6.toNatClampNeg) fun v44 =>
      f14_row_j89 rr7 w8_5 w8_6 w8_a_rowDone v44 w8_6

noncomputable def f14_row (p1 : Int32) (i_thrown : Int32) (i_taped : Int32) (i_isBegun : Int32) (i_teamMany : Int32) (i_teamKind : Int32) (i_well : Int32) (i_tick : Int32) (i_empty : Int32) (i_away : Int32) (i_litresThrown : Int32) (i_spilt : Int32) (i_pailsThrown : Int32) (i_drawn : Int32) (i_rowMany : Int32) (a_tape : Nat → Int32) (a_now : Nat → Int32) (a_team : Nat → Int32) (a_rest : Nat → Int32) (a_load : Nat → Int32) (a_done : Nat → Int32) (a_queue : Nat → Int32) (a_waits : Nat → Int32) (a_most : Nat → Int32) (a_comes : Nat → Int32) (a_state : Nat → Int32) (a_rowBy : Nat → Int32) (a_rowDone : Nat → Int32) : Option (Int32 × Int32 × Int32 × Int32 × Int32 × Int32 × Int32 × Int32 × Int32 × Int32 × Int32 × Int32 × Int32 × Int32 × Int32 × (Nat → Int32) × (Nat → Int32) × (Nat → Int32) × (Nat → Int32) × (Nat → Int32) × (Nat → Int32) × (Nat → Int32) × (Nat → Int32) × (Nat → Int32) × (Nat → Int32) × (Nat → Int32) × (Nat → Int32)) :=
  (f14_takesTeam (2 : Int32) (12 : Int32) (1 : Int32) i_taped i_isBegun i_teamMany a_tape a_now a_team).bind fun rr1 =>
  if rr1.1 = 0 then
    some ((-1 : Int32), (0 : Int32), rr1.2.1, rr1.2.2.1, rr1.2.2.2.1, i_teamKind, i_well, i_tick, i_empty, i_away, i_litresThrown, i_spilt, i_pailsThrown, i_drawn, i_rowMany, rr1.2.2.2.2.1, rr1.2.2.2.2.2, a_rest, a_load, a_done, a_queue, a_waits, a_most, a_comes, a_state, a_rowBy, a_rowDone)
  else
    (f14_isIn p1 (0 : Int32) (3600 : Int32)).bind fun rr3 =>
    if rr3 = 0 then
      some ((-1 : Int32), (0 : Int32), rr1.2.1, rr1.2.2.1, rr1.2.2.2.1, i_teamKind, i_well, i_tick, i_empty, i_away, i_litresThrown, i_spilt, i_pailsThrown, i_drawn, i_rowMany, rr1.2.2.2.2.1, rr1.2.2.2.2.2, a_rest, a_load, a_done, a_queue, a_waits, a_most, a_comes, a_state, a_rowBy, a_rowDone)
    else
      gd (inb (5 : Int32) 800) <|
      lt (rr1.2.2.2.2.1 (5 : Int32).toNatClampNeg) fun v6 =>
      (f14_throwsIn (1 : Int32) rr1.2.2.2.1 v6 p1 rr1.2.2.2.1 i_teamKind i_well i_tick i_empty i_away i_litresThrown i_spilt i_pailsThrown i_drawn rr1.2.2.2.2.1 rr1.2.2.2.2.2 a_rest a_load a_done a_queue a_waits a_most a_comes a_state).bind fun rr7 =>
      (whl (fun (s8 : Int32 × Int32 × Int32 × Int32 × (Nat → Int32)) => f14_row_s8 rr7 s8.1 s8.2.1 s8.2.2.1 s8.2.2.2.1 s8.2.2.2.2) FU ((0 : Int32), (0 : Int32), (0 : Int32), (0 : Int32), a_rowDone)).bind fun rl8 =>
      f14_row_e8_0 a_rowBy rr1 rr7 rl8
set_option maxHeartbeats 4000000 in
theorem m14_row (l : Launch) (G : gG) (K : gK) (I : gI) (J : gJ) (X : gX) (A : gI) (B : gJ) (Q : gX) (o : Nat) (shM : Sh K X o 11 rows11) (p1 : Int32) (i_thrown : Int32) (i_taped : Int32) (i_isBegun : Int32) (i_teamMany : Int32) (i_teamKind : Int32) (i_well : Int32) (i_tick : Int32) (i_empty : Int32) (i_away : Int32) (i_litresThrown : Int32) (i_spilt : Int32) (i_pailsThrown : Int32) (i_drawn : Int32) (i_rowMany : Int32) (a_tape : Nat → Int32) (a_now : Nat → Int32) (a_team : Nat → Int32) (a_rest : Nat → Int32) (a_load : Nat → Int32) (a_done : Nat → Int32) (a_queue : Nat → Int32) (a_waits : Nat → Int32) (a_most : Nat → Int32) (a_comes : Nat → Int32) (a_state : Nat → Int32) (a_rowBy : Nat → Int32) (a_rowDone : Nat → Int32) (e_i_thrown : I 1100 o = i_thrown) (e_i_taped : I 1102 o = i_taped) (e_i_isBegun : I 1122 o = i_isBegun) (e_i_teamMany : I 1133 o = i_teamMany) (e_i_teamKind : I 1134 o = i_teamKind) (e_i_well : I 1135 o = i_well) (e_i_tick : I 1136 o = i_tick) (e_i_empty : I 1137 o = i_empty) (e_i_away : I 1138 o = i_away) (e_i_litresThrown : I 1139 o = i_litresThrown) (e_i_spilt : I 1140 o = i_spilt) (e_i_pailsThrown : I 1141 o = i_pailsThrown) (e_i_drawn : I 1142 o = i_drawn) (e_i_rowMany : I 1145 o = i_rowMany) (e_a_tape : A (o + 1) = a_tape) (e_a_now : A (o + 2) = a_now) (e_a_team : A (o + 10) = a_team) (e_a_rest : A (o + 11) = a_rest) (e_a_load : A (o + 12) = a_load) (e_a_done : A (o + 13) = a_done) (e_a_queue : A (o + 14) = a_queue) (e_a_waits : A (o + 15) = a_waits) (e_a_most : A (o + 16) = a_most) (e_a_comes : A (o + 17) = a_comes) (e_a_state : A (o + 18) = a_state) (e_a_rowBy : A (o + 19) = a_rowBy) (e_a_rowDone : A (o + 20) = a_rowDone) (out : Int32 × Int32 × Int32 × Int32 × Int32 × Int32 × Int32 × Int32 × Int32 × Int32 × Int32 × Int32 × Int32 × Int32 × Int32 × (Nat → Int32) × (Nat → Int32) × (Nat → Int32) × (Nat → Int32) × (Nat → Int32) × (Nat → Int32) × (Nat → Int32) × (Nat → Int32) × (Nat → Int32) × (Nat → Int32) × (Nat → Int32) × (Nat → Int32)) (hf : f14_row p1 i_thrown i_taped i_isBegun i_teamMany i_teamKind i_well i_tick i_empty i_away i_litresThrown i_spilt i_pailsThrown i_drawn i_rowMany a_tape a_now a_team a_rest a_load a_done a_queue a_waits a_most a_comes a_state a_rowBy a_rowDone = some out) : GMet l yX14_row cX14_row 8 (some .int) (7) (153) G [.ref o, .int p1] K I J X A B Q (some (.int out.1)) K (ov I [(1100, o, out.2.1), (1102, o, out.2.2.1), (1122, o, out.2.2.2.1), (1133, o, out.2.2.2.2.1), (1134, o, out.2.2.2.2.2.1), (1135, o, out.2.2.2.2.2.2.1), (1136, o, out.2.2.2.2.2.2.2.1), (1137, o, out.2.2.2.2.2.2.2.2.1), (1138, o, out.2.2.2.2.2.2.2.2.2.1), (1139, o, out.2.2.2.2.2.2.2.2.2.2.1), (1140, o, out.2.2.2.2.2.2.2.2.2.2.2.1), (1141, o, out.2.2.2.2.2.2.2.2.2.2.2.2.1), (1142, o, out.2.2.2.2.2.2.2.2.2.2.2.2.2.1), (1145, o, out.2.2.2.2.2.2.2.2.2.2.2.2.2.2.1)]) J X (ova A [((o + 1), a_tape), ((o + 2), out.2.2.2.2.2.2.2.2.2.2.2.2.2.2.2.1), ((o + 10), out.2.2.2.2.2.2.2.2.2.2.2.2.2.2.2.2.1), ((o + 11), out.2.2.2.2.2.2.2.2.2.2.2.2.2.2.2.2.2.1), ((o + 12), out.2.2.2.2.2.2.2.2.2.2.2.2.2.2.2.2.2.2.1), ((o + 13), out.2.2.2.2.2.2.2.2.2.2.2.2.2.2.2.2.2.2.2.1), ((o + 14), out.2.2.2.2.2.2.2.2.2.2.2.2.2.2.2.2.2.2.2.2.1), ((o + 15), out.2.2.2.2.2.2.2.2.2.2.2.2.2.2.2.2.2.2.2.2.2.1), ((o + 16), out.2.2.2.2.2.2.2.2.2.2.2.2.2.2.2.2.2.2.2.2.2.2.1), ((o + 17), out.2.2.2.2.2.2.2.2.2.2.2.2.2.2.2.2.2.2.2.2.2.2.2.1), ((o + 18), out.2.2.2.2.2.2.2.2.2.2.2.2.2.2.2.2.2.2.2.2.2.2.2.2.1), ((o + 19), out.2.2.2.2.2.2.2.2.2.2.2.2.2.2.2.2.2.2.2.2.2.2.2.2.2.1), ((o + 20), out.2.2.2.2.2.2.2.2.2.2.2.2.2.2.2.2.2.2.2.2.2.2.2.2.2.2)]) B Q 0 0 := by
  refine GMet.of (y := yX14_row) rfl (Nat.le_of_ble_eq_true rfl) rfl ?_
  intro p e s m below meth c ls hx hb hr hml hlocks hts hown hname hG hR hl
  have hown : s.vm.findClass RX14 = some m.cls := hown
  have k_a_tape : K (o + 1) = some (.inr (0, 740)) := (shM.2 0 _ rfl).1
  have k_a_now : K (o + 2) = some (.inr (0, 800)) := (shM.2 1 _ rfl).1
  have k_a_team : K (o + 10) = some (.inr (0, 12)) := (shM.2 9 _ rfl).1
  have k_a_rest : K (o + 11) = some (.inr (0, 12)) := (shM.2 10 _ rfl).1
  have k_a_load : K (o + 12) = some (.inr (0, 12)) := (shM.2 11 _ rfl).1
  have k_a_done : K (o + 13) = some (.inr (0, 12)) := (shM.2 12 _ rfl).1
  have k_a_queue : K (o + 14) = some (.inr (0, 360)) := (shM.2 13 _ rfl).1
  have k_a_waits : K (o + 15) = some (.inr (0, 12)) := (shM.2 14 _ rfl).1
  have k_a_most : K (o + 16) = some (.inr (0, 12)) := (shM.2 15 _ rfl).1
  have k_a_comes : K (o + 17) = some (.inr (0, 30)) := (shM.2 16 _ rfl).1
  have k_a_state : K (o + 18) = some (.inr (0, 12)) := (shM.2 17 _ rfl).1
  have k_a_rowBy : K (o + 19) = some (.inr (0, 6)) := (shM.2 18 _ rfl).1
  have k_a_rowDone : K (o + 20) = some (.inr (0, 12)) := (shM.2 19 _ rfl).1
  have hN_A : nda [(o + 1), (o + 2), (o + 10), (o + 11), (o + 12), (o + 13), (o + 14), (o + 15), (o + 16), (o + 17), (o + 18), (o + 19), (o + 20)] := nd_off o [1, 2, 10, 11, 12, 13, 14, 15, 16, 17, 18, 19, 20] rfl
  have hR : RS G K (ov I [(1100, o, i_thrown), (1102, o, i_taped), (1122, o, i_isBegun), (1133, o, i_teamMany), (1134, o, i_teamKind), (1135, o, i_well), (1136, o, i_tick), (1137, o, i_empty), (1138, o, i_away), (1139, o, i_litresThrown), (1140, o, i_spilt), (1141, o, i_pailsThrown), (1142, o, i_drawn), (1145, o, i_rowMany)]) J X (ova A [((o + 1), a_tape), ((o + 2), a_now), ((o + 10), a_team), ((o + 11), a_rest), ((o + 12), a_load), ((o + 13), a_done), ((o + 14), a_queue), ((o + 15), a_waits), ((o + 16), a_most), ((o + 17), a_comes), ((o + 18), a_state), ((o + 19), a_rowBy), ((o + 20), a_rowDone)]) B Q s.heap := hR.to (Eq.symm (ov_sc e_i_thrown (ov_sc e_i_taped (ov_sc e_i_isBegun (ov_sc e_i_teamMany (ov_sc e_i_teamKind (ov_sc e_i_well (ov_sc e_i_tick (ov_sc e_i_empty (ov_sc e_i_away (ov_sc e_i_litresThrown (ov_sc e_i_spilt (ov_sc e_i_pailsThrown (ov_sc e_i_drawn (ov_sc e_i_rowMany rfl))))))))))))))) rfl rfl (Eq.symm (ova_sc e_a_tape (ova_sc e_a_now (ova_sc e_a_team (ova_sc e_a_rest (ova_sc e_a_load (ova_sc e_a_done (ova_sc e_a_queue (ova_sc e_a_waits (ova_sc e_a_most (ova_sc e_a_comes (ova_sc e_a_state (ova_sc e_a_rowBy (ova_sc e_a_rowDone rfl)))))))))))))) rfl rfl
  have hS : va_S (gA G) s.heap s.heap [] := va_S.rf
  have hend : ∀ (pc : Nat) (H : Heap) (locs : List Loc) (ls : Array Slot), decode cX14_row pc = .ok (.ireturn, 1) → RS G K (ov I [(1100, o, out.2.1), (1102, o, out.2.2.1), (1122, o, out.2.2.2.1), (1133, o, out.2.2.2.2.1), (1134, o, out.2.2.2.2.2.1), (1135, o, out.2.2.2.2.2.2.1), (1136, o, out.2.2.2.2.2.2.2.1), (1137, o, out.2.2.2.2.2.2.2.2.1), (1138, o, out.2.2.2.2.2.2.2.2.2.1), (1139, o, out.2.2.2.2.2.2.2.2.2.2.1), (1140, o, out.2.2.2.2.2.2.2.2.2.2.2.1), (1141, o, out.2.2.2.2.2.2.2.2.2.2.2.2.1), (1142, o, out.2.2.2.2.2.2.2.2.2.2.2.2.2.1), (1145, o, out.2.2.2.2.2.2.2.2.2.2.2.2.2.2.1)]) J X (ova A [((o + 1), a_tape), ((o + 2), out.2.2.2.2.2.2.2.2.2.2.2.2.2.2.2.1), ((o + 10), out.2.2.2.2.2.2.2.2.2.2.2.2.2.2.2.2.1), ((o + 11), out.2.2.2.2.2.2.2.2.2.2.2.2.2.2.2.2.2.1), ((o + 12), out.2.2.2.2.2.2.2.2.2.2.2.2.2.2.2.2.2.2.1), ((o + 13), out.2.2.2.2.2.2.2.2.2.2.2.2.2.2.2.2.2.2.2.1), ((o + 14), out.2.2.2.2.2.2.2.2.2.2.2.2.2.2.2.2.2.2.2.2.1), ((o + 15), out.2.2.2.2.2.2.2.2.2.2.2.2.2.2.2.2.2.2.2.2.2.1), ((o + 16), out.2.2.2.2.2.2.2.2.2.2.2.2.2.2.2.2.2.2.2.2.2.2.1), ((o + 17), out.2.2.2.2.2.2.2.2.2.2.2.2.2.2.2.2.2.2.2.2.2.2.2.1), ((o + 18), out.2.2.2.2.2.2.2.2.2.2.2.2.2.2.2.2.2.2.2.2.2.2.2.2.1), ((o + 19), out.2.2.2.2.2.2.2.2.2.2.2.2.2.2.2.2.2.2.2.2.2.2.2.2.2.1), ((o + 20), out.2.2.2.2.2.2.2.2.2.2.2.2.2.2.2.2.2.2.2.2.2.2.2.2.2.2)]) B Q H → va_S (gA G) s.heap H locs → W p l e ({ frames := 7, cells := 0, slots := 0, locals := 153 } : Room) s m ([.ref o, .int p1] : List Value).toArray below meth c H locs 0 0 (MQ below (gQ G (some (.int out.1)) K (ov I [(1100, o, out.2.1), (1102, o, out.2.2.1), (1122, o, out.2.2.2.1), (1133, o, out.2.2.2.2.1), (1134, o, out.2.2.2.2.2.1), (1135, o, out.2.2.2.2.2.2.1), (1136, o, out.2.2.2.2.2.2.2.1), (1137, o, out.2.2.2.2.2.2.2.2.1), (1138, o, out.2.2.2.2.2.2.2.2.2.1), (1139, o, out.2.2.2.2.2.2.2.2.2.2.1), (1140, o, out.2.2.2.2.2.2.2.2.2.2.2.1), (1141, o, out.2.2.2.2.2.2.2.2.2.2.2.2.1), (1142, o, out.2.2.2.2.2.2.2.2.2.2.2.2.2.1), (1145, o, out.2.2.2.2.2.2.2.2.2.2.2.2.2.2.1)]) J X (ova A [((o + 1), a_tape), ((o + 2), out.2.2.2.2.2.2.2.2.2.2.2.2.2.2.2.1), ((o + 10), out.2.2.2.2.2.2.2.2.2.2.2.2.2.2.2.2.1), ((o + 11), out.2.2.2.2.2.2.2.2.2.2.2.2.2.2.2.2.2.1), ((o + 12), out.2.2.2.2.2.2.2.2.2.2.2.2.2.2.2.2.2.2.1), ((o + 13), out.2.2.2.2.2.2.2.2.2.2.2.2.2.2.2.2.2.2.2.1), ((o + 14), out.2.2.2.2.2.2.2.2.2.2.2.2.2.2.2.2.2.2.2.2.1), ((o + 15), out.2.2.2.2.2.2.2.2.2.2.2.2.2.2.2.2.2.2.2.2.2.1), ((o + 16), out.2.2.2.2.2.2.2.2.2.2.2.2.2.2.2.2.2.2.2.2.2.2.1), ((o + 17), out.2.2.2.2.2.2.2.2.2.2.2.2.2.2.2.2.2.2.2.2.2.2.2.1), ((o + 18), out.2.2.2.2.2.2.2.2.2.2.2.2.2.2.2.2.2.2.2.2.2.2.2.2.1), ((o + 19), out.2.2.2.2.2.2.2.2.2.2.2.2.2.2.2.2.2.2.2.2.2.2.2.2.2.1), ((o + 20), out.2.2.2.2.2.2.2.2.2.2.2.2.2.2.2.2.2.2.2.2.2.2.2.2.2.2)]) B Q) ([.ref o, .int p1] : List Value).toArray s 0 0 (gA G)) (F0 m pc ls [.int out.1]) := fun pc H locs ls hd hR hS => g_iret hx hb hr hlocks hG hR hS rfl hd
  generalize MQ below (gQ G (some (.int out.1)) K (ov I [(1100, o, out.2.1), (1102, o, out.2.2.1), (1122, o, out.2.2.2.1), (1133, o, out.2.2.2.2.1), (1134, o, out.2.2.2.2.2.1), (1135, o, out.2.2.2.2.2.2.1), (1136, o, out.2.2.2.2.2.2.2.1), (1137, o, out.2.2.2.2.2.2.2.2.1), (1138, o, out.2.2.2.2.2.2.2.2.2.1), (1139, o, out.2.2.2.2.2.2.2.2.2.2.1), (1140, o, out.2.2.2.2.2.2.2.2.2.2.2.1), (1141, o, out.2.2.2.2.2.2.2.2.2.2.2.2.1), (1142, o, out.2.2.2.2.2.2.2.2.2.2.2.2.2.1), (1145, o, out.2.2.2.2.2.2.2.2.2.2.2.2.2.2.1)]) J X (ova A [((o + 1), a_tape), ((o + 2), out.2.2.2.2.2.2.2.2.2.2.2.2.2.2.2.1), ((o + 10), out.2.2.2.2.2.2.2.2.2.2.2.2.2.2.2.2.1), ((o + 11), out.2.2.2.2.2.2.2.2.2.2.2.2.2.2.2.2.2.1), ((o + 12), out.2.2.2.2.2.2.2.2.2.2.2.2.2.2.2.2.2.2.1), ((o + 13), out.2.2.2.2.2.2.2.2.2.2.2.2.2.2.2.2.2.2.2.1), ((o + 14), out.2.2.2.2.2.2.2.2.2.2.2.2.2.2.2.2.2.2.2.2.1), ((o + 15), out.2.2.2.2.2.2.2.2.2.2.2.2.2.2.2.2.2.2.2.2.2.1), ((o + 16), out.2.2.2.2.2.2.2.2.2.2.2.2.2.2.2.2.2.2.2.2.2.2.1), ((o + 17), out.2.2.2.2.2.2.2.2.2.2.2.2.2.2.2.2.2.2.2.2.2.2.2.1), ((o + 18), out.2.2.2.2.2.2.2.2.2.2.2.2.2.2.2.2.2.2.2.2.2.2.2.2.1), ((o + 19), out.2.2.2.2.2.2.2.2.2.2.2.2.2.2.2.2.2.2.2.2.2.2.2.2.2.1), ((o + 20), out.2.2.2.2.2.2.2.2.2.2.2.2.2.2.2.2.2.2.2.2.2.2.2.2.2.2)]) B Q) ([.ref o, .int p1] : List Value).toArray s 0 0 (gA G) = Z at hend ⊢
  generalize ([.ref o, .int p1] : List Value).toArray = args at hts hend ⊢
  unfold f14_row at hf
  refine lv_aload_n hx hb dX14_row_0 rfl (lv_at hl 0 rfl) ?_
  refine lv_iconst (v := 0) hx hb dX14_row_1 li_0 ?_
  refine n_puti (li' := [(1100, o, (0 : Int32)), (1102, o, i_taped), (1122, o, i_isBegun), (1133, o, i_teamMany), (1134, o, i_teamKind), (1135, o, i_well), (1136, o, i_tick), (1137, o, i_empty), (1138, o, i_away), (1139, o, i_litresThrown), (1140, o, i_spilt), (1141, o, i_pailsThrown), (1142, o, i_drawn), (1145, o, i_rowMany)]) hx hb hts hown hG hR hS gPi_X14_148_11 shM.1 0 rfl rfl rfl dX14_row_2 (fun H locs hR hS => ?_)
  refine lv_aload_n hx hb dX14_row_5 rfl (lv_at hl 0 rfl) ?_
  refine lv_iconst (v := 2) hx hb dX14_row_6 li_2 ?_
  refine lv_bipush (v := 12) hx hb dX14_row_7 lb_12 ?_
  refine lv_iconst (v := 1) hx hb dX14_row_9 li_1 ?_
  obtain ⟨rr1, hrr1, hf⟩ := bind_s hf
  refine g0_cV (rm := (2, 41)) (As := [.int (2 : Int32), .int (12 : Int32), .int (1 : Int32)]) (rest := []) ⟨hx, hb, hml, hown, hts⟩ hG hR hS (m14_takesTeam l G K (ov I [(1100, o, (0 : Int32)), (1102, o, i_taped), (1122, o, i_isBegun), (1133, o, i_teamMany), (1134, o, i_teamKind), (1135, o, i_well), (1136, o, i_tick), (1137, o, i_empty), (1138, o, i_away), (1139, o, i_litresThrown), (1140, o, i_spilt), (1141, o, i_pailsThrown), (1142, o, i_drawn), (1145, o, i_rowMany)]) J X (ova A [((o + 1), a_tape), ((o + 2), a_now), ((o + 10), a_team), ((o + 11), a_rest), ((o + 12), a_load), ((o + 13), a_done), ((o + 14), a_queue), ((o + 15), a_waits), ((o + 16), a_most), ((o + 17), a_comes), ((o + 18), a_state), ((o + 19), a_rowBy), ((o + 20), a_rowDone)]) B Q o shM (2 : Int32) (12 : Int32) (1 : Int32) i_taped i_isBegun i_teamMany a_tape a_now a_team (ov_get 1 rfl rfl) (ov_get 2 rfl rfl) (ov_get 3 rfl rfl) (ova_get 0 hN_A rfl) (ova_get 1 hN_A rfl) (ova_get 2 hN_A rfl) rr1 hrr1) (cwV 3 hts gi_X14_372 rfl rfl rfl hd_X14_takesTeam ⟨Nat.le_of_ble_eq_true rfl, Nat.le_of_ble_eq_true rfl⟩) shM.1 rfl rfl hl.1 (Nat.le_of_ble_eq_true rfl) dX14_row_10 ⟨Nat.le_refl _, Nat.le_refl _⟩ rfl (fun H locs hR hS => ?_)
  have hR : RS G K (ov I [(1100, o, (0 : Int32)), (1102, o, rr1.2.1), (1122, o, rr1.2.2.1), (1133, o, rr1.2.2.2.1), (1134, o, i_teamKind), (1135, o, i_well), (1136, o, i_tick), (1137, o, i_empty), (1138, o, i_away), (1139, o, i_litresThrown), (1140, o, i_spilt), (1141, o, i_pailsThrown), (1142, o, i_drawn), (1145, o, i_rowMany)]) J X (ova A [((o + 1), a_tape), ((o + 2), rr1.2.2.2.2.1), ((o + 10), rr1.2.2.2.2.2), ((o + 11), a_rest), ((o + 12), a_load), ((o + 13), a_done), ((o + 14), a_queue), ((o + 15), a_waits), ((o + 16), a_most), ((o + 17), a_comes), ((o + 18), a_state), ((o + 19), a_rowBy), ((o + 20), a_rowDone)]) B Q H := hR.to (ov_merge (l := [(1100, o, (0 : Int32)), (1102, o, i_taped), (1122, o, i_isBegun), (1133, o, i_teamMany), (1134, o, i_teamKind), (1135, o, i_well), (1136, o, i_tick), (1137, o, i_empty), (1138, o, i_away), (1139, o, i_litresThrown), (1140, o, i_spilt), (1141, o, i_pailsThrown), (1142, o, i_drawn), (1145, o, i_rowMany)]) rfl [1, 2, 3] [(1102, o, rr1.2.1), (1122, o, rr1.2.2.1), (1133, o, rr1.2.2.2.1)] rfl rfl) rfl rfl (ova_merge (l := [((o + 1), a_tape), ((o + 2), a_now), ((o + 10), a_team), ((o + 11), a_rest), ((o + 12), a_load), ((o + 13), a_done), ((o + 14), a_queue), ((o + 15), a_waits), ((o + 16), a_most), ((o + 17), a_comes), ((o + 18), a_state), ((o + 19), a_rowBy), ((o + 20), a_rowDone)]) hN_A [0, 1, 2] [((o + 1), a_tape), ((o + 2), rr1.2.2.2.2.1), ((o + 10), rr1.2.2.2.2.2)] rfl rfl) rfl rfl
  refine lv_if_eq (tgt := 27) hx hb dX14_row_13 (by decide) (fun c2 => ?_) (fun c2 => ?_)
  · have hf := ite_t c2 hf
    refine lv_iconst (v := -1) hx hb dX14_row_27 li_m1 ?_
    obtain rfl := some_i hf
    exact hend _ _ _ _ dX14_row_28 hR hS
  · have hf := ite_f c2 hf
    refine lv_iload_n hx hb dX14_row_16 rfl (lv_at hl 1 rfl) ?_
    refine lv_iconst (v := 0) hx hb dX14_row_17 li_0 ?_
    refine lv_sipush (v := 3600) hx hb dX14_row_18 ls_3600 ?_
    obtain ⟨rr3, hrr3, hf⟩ := bind_s hf
    refine g0_cS (rm := (0, 0)) (As := [.int p1, .int (0 : Int32), .int (3600 : Int32)]) (rest := []) ⟨hx, hb, hml, hown, hts⟩ hG hR hS (m14_isIn l G K (ov I [(1100, o, (0 : Int32)), (1102, o, rr1.2.1), (1122, o, rr1.2.2.1), (1133, o, rr1.2.2.2.1), (1134, o, i_teamKind), (1135, o, i_well), (1136, o, i_tick), (1137, o, i_empty), (1138, o, i_away), (1139, o, i_litresThrown), (1140, o, i_spilt), (1141, o, i_pailsThrown), (1142, o, i_drawn), (1145, o, i_rowMany)]) J X (ova A [((o + 1), a_tape), ((o + 2), rr1.2.2.2.2.1), ((o + 10), rr1.2.2.2.2.2), ((o + 11), a_rest), ((o + 12), a_load), ((o + 13), a_done), ((o + 14), a_queue), ((o + 15), a_waits), ((o + 16), a_most), ((o + 17), a_comes), ((o + 18), a_state), ((o + 19), a_rowBy), ((o + 20), a_rowDone)]) B Q p1 (0 : Int32) (3600 : Int32) rr3 hrr3) (cwS 3 hts gi_X14_219 rfl rfl rfl hd_X14_isIn ⟨Nat.le_of_ble_eq_true rfl, Nat.le_of_ble_eq_true rfl⟩) rfl hl.1 (Nat.le_of_ble_eq_true rfl) dX14_row_21 ⟨Nat.le_refl _, Nat.le_refl _⟩ rfl (fun H locs hR hS => ?_)
    refine lv_if_ne (tgt := 29) hx hb dX14_row_24 (by decide) (fun c4 => ?_) (fun c4 => ?_)
    · have hf := ite_f c4 hf
      refine lv_aload_n hx hb dX14_row_29 rfl (lv_at hl 0 rfl) ?_
      refine lv_iconst (v := 1) hx hb dX14_row_30 li_1 ?_
      refine lv_aload_n hx hb dX14_row_31 rfl (lv_at hl 0 rfl) ?_
      refine n_geti (v := rr1.2.2.2.1) hx hb hts hown hG hR gFi_X14_304_11 shM.1 (ov_get 3 rfl rfl) dX14_row_32 ?_
      refine lv_aload_n hx hb dX14_row_35 rfl (lv_at hl 0 rfl) ?_
      refine g_getr (b := (o + 2)) hx hb hts hown hG hR gFx_X14_13_11 shM.1 ((shM.2 1 _ rfl).2) dX14_row_36 ?_
      refine lv_iconst (v := 5) hx hb dX14_row_39 li_5 ?_
      obtain ⟨c5, hf⟩ := gd_some hf
      obtain ⟨v6, ev6, hf⟩ := lt_some hf
      refine n_iald (x := rr1.2.2.2.2.1) hx hb hG hR k_a_now c5 (ova_get 1 hN_A rfl) ev6 dX14_row_40 ?_
      refine lv_iload_n hx hb dX14_row_41 rfl (lv_at hl 1 rfl) ?_
      obtain ⟨rr7, hrr7, hf⟩ := bind_s hf
      refine g0_cV (rm := (6, 128)) (As := [.int (1 : Int32), .int rr1.2.2.2.1, .int v6, .int p1]) (rest := []) ⟨hx, hb, hml, hown, hts⟩ hG hR hS (m14_throwsIn l G K (ov I [(1100, o, (0 : Int32)), (1102, o, rr1.2.1), (1122, o, rr1.2.2.1), (1133, o, rr1.2.2.2.1), (1134, o, i_teamKind), (1135, o, i_well), (1136, o, i_tick), (1137, o, i_empty), (1138, o, i_away), (1139, o, i_litresThrown), (1140, o, i_spilt), (1141, o, i_pailsThrown), (1142, o, i_drawn), (1145, o, i_rowMany)]) J X (ova A [((o + 1), a_tape), ((o + 2), rr1.2.2.2.2.1), ((o + 10), rr1.2.2.2.2.2), ((o + 11), a_rest), ((o + 12), a_load), ((o + 13), a_done), ((o + 14), a_queue), ((o + 15), a_waits), ((o + 16), a_most), ((o + 17), a_comes), ((o + 18), a_state), ((o + 19), a_rowBy), ((o + 20), a_rowDone)]) B Q o shM (1 : Int32) rr1.2.2.2.1 v6 p1 rr1.2.2.2.1 i_teamKind i_well i_tick i_empty i_away i_litresThrown i_spilt i_pailsThrown i_drawn rr1.2.2.2.2.1 rr1.2.2.2.2.2 a_rest a_load a_done a_queue a_waits a_most a_comes a_state (ov_get 3 rfl rfl) (ov_get 4 rfl rfl) (ov_get 5 rfl rfl) (ov_get 6 rfl rfl) (ov_get 7 rfl rfl) (ov_get 8 rfl rfl) (ov_get 9 rfl rfl) (ov_get 10 rfl rfl) (ov_get 11 rfl rfl) (ov_get 12 rfl rfl) (ova_get 1 hN_A rfl) (ova_get 2 hN_A rfl) (ova_get 3 hN_A rfl) (ova_get 4 hN_A rfl) (ova_get 5 hN_A rfl) (ova_get 6 hN_A rfl) (ova_get 7 hN_A rfl) (ova_get 8 hN_A rfl) (ova_get 9 hN_A rfl) (ova_get 10 hN_A rfl) rr7 hrr7) (cwV 4 hts gi_X14_376 rfl rfl rfl hd_X14_throwsIn ⟨Nat.le_of_ble_eq_true rfl, Nat.le_of_ble_eq_true rfl⟩) shM.1 rfl rfl hl.1 (Nat.le_of_ble_eq_true rfl) dX14_row_42 ⟨Nat.le_refl _, Nat.le_refl _⟩ rfl (fun H locs hR hS => ?_)
      have hR : RS G K (ov I [(1100, o, (0 : Int32)), (1102, o, rr1.2.1), (1122, o, rr1.2.2.1), (1133, o, rr7.2.1), (1134, o, rr7.2.2.1), (1135, o, rr7.2.2.2.1), (1136, o, rr7.2.2.2.2.1), (1137, o, rr7.2.2.2.2.2.1), (1138, o, rr7.2.2.2.2.2.2.1), (1139, o, rr7.2.2.2.2.2.2.2.1), (1140, o, rr7.2.2.2.2.2.2.2.2.1), (1141, o, rr7.2.2.2.2.2.2.2.2.2.1), (1142, o, rr7.2.2.2.2.2.2.2.2.2.2.1), (1145, o, i_rowMany)]) J X (ova A [((o + 1), a_tape), ((o + 2), rr1.2.2.2.2.1), ((o + 10), rr1.2.2.2.2.2), ((o + 11), rr7.2.2.2.2.2.2.2.2.2.2.2.1), ((o + 12), rr7.2.2.2.2.2.2.2.2.2.2.2.2.1), ((o + 13), rr7.2.2.2.2.2.2.2.2.2.2.2.2.2.1), ((o + 14), rr7.2.2.2.2.2.2.2.2.2.2.2.2.2.2.1), ((o + 15), rr7.2.2.2.2.2.2.2.2.2.2.2.2.2.2.2.1), ((o + 16), rr7.2.2.2.2.2.2.2.2.2.2.2.2.2.2.2.2.1), ((o + 17), rr7.2.2.2.2.2.2.2.2.2.2.2.2.2.2.2.2.2.1), ((o + 18), rr7.2.2.2.2.2.2.2.2.2.2.2.2.2.2.2.2.2.2), ((o + 19), a_rowBy), ((o + 20), a_rowDone)]) B Q H := hR.to (ov_merge (l := [(1100, o, (0 : Int32)), (1102, o, rr1.2.1), (1122, o, rr1.2.2.1), (1133, o, rr1.2.2.2.1), (1134, o, i_teamKind), (1135, o, i_well), (1136, o, i_tick), (1137, o, i_empty), (1138, o, i_away), (1139, o, i_litresThrown), (1140, o, i_spilt), (1141, o, i_pailsThrown), (1142, o, i_drawn), (1145, o, i_rowMany)]) rfl [3, 4, 5, 6, 7, 8, 9, 10, 11, 12] [(1133, o, rr7.2.1), (1134, o, rr7.2.2.1), (1135, o, rr7.2.2.2.1), (1136, o, rr7.2.2.2.2.1), (1137, o, rr7.2.2.2.2.2.1), (1138, o, rr7.2.2.2.2.2.2.1), (1139, o, rr7.2.2.2.2.2.2.2.1), (1140, o, rr7.2.2.2.2.2.2.2.2.1), (1141, o, rr7.2.2.2.2.2.2.2.2.2.1), (1142, o, rr7.2.2.2.2.2.2.2.2.2.2.1)] rfl rfl) rfl rfl (ova_merge (l := [((o + 1), a_tape), ((o + 2), rr1.2.2.2.2.1), ((o + 10), rr1.2.2.2.2.2), ((o + 11), a_rest), ((o + 12), a_load), ((o + 13), a_done), ((o + 14), a_queue), ((o + 15), a_waits), ((o + 16), a_most), ((o + 17), a_comes), ((o + 18), a_state), ((o + 19), a_rowBy), ((o + 20), a_rowDone)]) hN_A [1, 2, 3, 4, 5, 6, 7, 8, 9, 10] [((o + 2), rr1.2.2.2.2.1), ((o + 10), rr1.2.2.2.2.2), ((o + 11), rr7.2.2.2.2.2.2.2.2.2.2.2.1), ((o + 12), rr7.2.2.2.2.2.2.2.2.2.2.2.2.1), ((o + 13), rr7.2.2.2.2.2.2.2.2.2.2.2.2.2.1), ((o + 14), rr7.2.2.2.2.2.2.2.2.2.2.2.2.2.2.1), ((o + 15), rr7.2.2.2.2.2.2.2.2.2.2.2.2.2.2.2.1), ((o + 16), rr7.2.2.2.2.2.2.2.2.2.2.2.2.2.2.2.2.1), ((o + 17), rr7.2.2.2.2.2.2.2.2.2.2.2.2.2.2.2.2.2.1), ((o + 18), rr7.2.2.2.2.2.2.2.2.2.2.2.2.2.2.2.2.2.2)] rfl rfl) rfl rfl
      refine lv_istore_n (lv' := [(2, .int rr7.1), (0, .ref o), (1, .int p1)]) hx hb dX14_row_45 rfl hl (by decide) rfl (fun ls hl => ?_)
      refine lv_iconst (v := 0) hx hb dX14_row_46 li_0 ?_
      refine lv_istore_n (lv' := [(3, .int (0 : Int32)), (2, .int rr7.1), (0, .ref o), (1, .int p1)]) hx hb dX14_row_47 rfl hl (by decide) rfl (fun ls hl => ?_)
      refine lv_iconst (v := 0) hx hb dX14_row_48 li_0 ?_
      refine lv_istore (lv' := [(4, .int (0 : Int32)), (3, .int (0 : Int32)), (2, .int rr7.1), (0, .ref o), (1, .int p1)]) hx hb dX14_row_49 hl (by decide) rfl (fun ls hl => ?_)
      refine lv_iconst (v := 0) hx hb dX14_row_51 li_0 ?_
      refine lv_istore (lv' := [(5, .int (0 : Int32)), (4, .int (0 : Int32)), (3, .int (0 : Int32)), (2, .int rr7.1), (0, .ref o), (1, .int p1)]) hx hb dX14_row_52 hl (by decide) rfl (fun ls hl => ?_)
      refine lv_iconst (v := 0) hx hb dX14_row_54 li_0 ?_
      refine lv_istore (lv' := [(6, .int (0 : Int32)), (5, .int (0 : Int32)), (4, .int (0 : Int32)), (3, .int (0 : Int32)), (2, .int rr7.1), (0, .ref o), (1, .int p1)]) hx hb dX14_row_55 hl (by decide) rfl (fun ls hl => ?_)
      obtain ⟨rl8, hw8, hfo8⟩ := bind_s hf
      have hx8_0 : ∀ (x8_0 : Int32 × Int32 × Int32 × (Nat → Int32)), f14_row_e8_0 a_rowBy rr1 rr7 x8_0 = some out → ∀ (H : Heap) (locs : List Loc) (ls : Array Slot), RS G K (ov I [(1100, o, (0 : Int32)), (1102, o, rr1.2.1), (1122, o, rr1.2.2.1), (1133, o, rr7.2.1), (1134, o, rr7.2.2.1), (1135, o, rr7.2.2.2.1), (1136, o, rr7.2.2.2.2.1), (1137, o, rr7.2.2.2.2.2.1), (1138, o, rr7.2.2.2.2.2.2.1), (1139, o, rr7.2.2.2.2.2.2.2.1), (1140, o, rr7.2.2.2.2.2.2.2.2.1), (1141, o, rr7.2.2.2.2.2.2.2.2.2.1), (1142, o, rr7.2.2.2.2.2.2.2.2.2.2.1), (1145, o, i_rowMany)]) J X (ova A [((o + 1), a_tape), ((o + 2), rr1.2.2.2.2.1), ((o + 10), rr1.2.2.2.2.2), ((o + 11), rr7.2.2.2.2.2.2.2.2.2.2.2.1), ((o + 12), rr7.2.2.2.2.2.2.2.2.2.2.2.2.1), ((o + 13), rr7.2.2.2.2.2.2.2.2.2.2.2.2.2.1), ((o + 14), rr7.2.2.2.2.2.2.2.2.2.2.2.2.2.2.1), ((o + 15), rr7.2.2.2.2.2.2.2.2.2.2.2.2.2.2.2.1), ((o + 16), rr7.2.2.2.2.2.2.2.2.2.2.2.2.2.2.2.2.1), ((o + 17), rr7.2.2.2.2.2.2.2.2.2.2.2.2.2.2.2.2.2.1), ((o + 18), rr7.2.2.2.2.2.2.2.2.2.2.2.2.2.2.2.2.2.2), ((o + 19), a_rowBy), ((o + 20), x8_0.2.2.2)]) B Q H → va_S (gA G) s.heap H locs → lv_has ls 8 [(0, .ref o), (2, .int rr7.1), (3, .int x8_0.1), (4, .int x8_0.2.1), (5, .int x8_0.2.2.1)] → W p l e ({ frames := 7, cells := 0, slots := 0, locals := 153 } : Room) s m args below meth c H locs 0 0 Z (F0 m 160 ls []) := by
        intro x8_0 hf H locs ls hR hS hl
        unfold f14_row_e8_0 at hf
        refine lv_aload_n hx hb dX14_row_160 rfl (lv_at hl 0 rfl) ?_
        refine lv_aload_n hx hb dX14_row_161 rfl (lv_at hl 0 rfl) ?_
        refine n_geti (v := rr7.2.1) hx hb hts hown hG hR gFi_X14_304_11 shM.1 (ov_get 3 rfl rfl) dX14_row_162 ?_
        refine n_puti (li' := [(1100, o, (0 : Int32)), (1102, o, rr1.2.1), (1122, o, rr1.2.2.1), (1133, o, rr7.2.1), (1134, o, rr7.2.2.1), (1135, o, rr7.2.2.2.1), (1136, o, rr7.2.2.2.2.1), (1137, o, rr7.2.2.2.2.2.1), (1138, o, rr7.2.2.2.2.2.2.1), (1139, o, rr7.2.2.2.2.2.2.2.1), (1140, o, rr7.2.2.2.2.2.2.2.2.1), (1141, o, rr7.2.2.2.2.2.2.2.2.2.1), (1142, o, rr7.2.2.2.2.2.2.2.2.2.2.1), (1145, o, rr7.2.1)]) hx hb hts hown hG hR hS gPi_X14_380_11 shM.1 13 rfl rfl rfl dX14_row_165 (fun H locs hR hS => ?_)
        refine lv_aload_n hx hb dX14_row_168 rfl (lv_at hl 0 rfl) ?_
        refine g_getr (b := (o + 19)) hx hb hts hown hG hR gFx_X14_66_11 shM.1 ((shM.2 18 _ rfl).2) dX14_row_169 ?_
        refine lv_iconst (v := 0) hx hb dX14_row_172 li_0 ?_
        refine lv_iload_n hx hb dX14_row_173 rfl (lv_at hl 2 rfl) ?_
        obtain ⟨c9, hf⟩ := gd_some hf
        obtain ⟨u10, eu10, hf⟩ := lt_some hf
        refine n_iast (la' := [((o + 1), a_tape), ((o + 2), rr1.2.2.2.2.1), ((o + 10), rr1.2.2.2.2.2), ((o + 11), rr7.2.2.2.2.2.2.2.2.2.2.2.1), ((o + 12), rr7.2.2.2.2.2.2.2.2.2.2.2.2.1), ((o + 13), rr7.2.2.2.2.2.2.2.2.2.2.2.2.2.1), ((o + 14), rr7.2.2.2.2.2.2.2.2.2.2.2.2.2.2.1), ((o + 15), rr7.2.2.2.2.2.2.2.2.2.2.2.2.2.2.2.1), ((o + 16), rr7.2.2.2.2.2.2.2.2.2.2.2.2.2.2.2.2.1), ((o + 17), rr7.2.2.2.2.2.2.2.2.2.2.2.2.2.2.2.2.2.1), ((o + 18), rr7.2.2.2.2.2.2.2.2.2.2.2.2.2.2.2.2.2.2), ((o + 19), u10), ((o + 20), x8_0.2.2.2)]) hx hb hG hR hS k_a_rowBy c9 hN_A 11 rfl eu10 rfl dX14_row_174 (fun H locs hR hS => ?_)
        refine lv_aload_n hx hb dX14_row_175 rfl (lv_at hl 0 rfl) ?_
        refine g_getr (b := (o + 19)) hx hb hts hown hG hR gFx_X14_66_11 shM.1 ((shM.2 18 _ rfl).2) dX14_row_176 ?_
        refine lv_iconst (v := 1) hx hb dX14_row_179 li_1 ?_
        refine lv_iload hx hb dX14_row_180 (lv_at hl 3 rfl) ?_
        obtain ⟨c11, hf⟩ := gd_some hf
        obtain ⟨u12, eu12, hf⟩ := lt_some hf
        refine n_iast (la' := [((o + 1), a_tape), ((o + 2), rr1.2.2.2.2.1), ((o + 10), rr1.2.2.2.2.2), ((o + 11), rr7.2.2.2.2.2.2.2.2.2.2.2.1), ((o + 12), rr7.2.2.2.2.2.2.2.2.2.2.2.2.1), ((o + 13), rr7.2.2.2.2.2.2.2.2.2.2.2.2.2.1), ((o + 14), rr7.2.2.2.2.2.2.2.2.2.2.2.2.2.2.1), ((o + 15), rr7.2.2.2.2.2.2.2.2.2.2.2.2.2.2.2.1), ((o + 16), rr7.2.2.2.2.2.2.2.2.2.2.2.2.2.2.2.2.1), ((o + 17), rr7.2.2.2.2.2.2.2.2.2.2.2.2.2.2.2.2.2.1), ((o + 18), rr7.2.2.2.2.2.2.2.2.2.2.2.2.2.2.2.2.2.2), ((o + 19), u12), ((o + 20), x8_0.2.2.2)]) hx hb hG hR hS k_a_rowBy c11 hN_A 11 rfl eu12 rfl dX14_row_182 (fun H locs hR hS => ?_)
        refine lv_aload_n hx hb dX14_row_183 rfl (lv_at hl 0 rfl) ?_
        refine g_getr (b := (o + 19)) hx hb hts hown hG hR gFx_X14_66_11 shM.1 ((shM.2 18 _ rfl).2) dX14_row_184 ?_
        refine lv_iconst (v := 2) hx hb dX14_row_187 li_2 ?_
        refine lv_aload_n hx hb dX14_row_188 rfl (lv_at hl 0 rfl) ?_
        refine n_geti (v := rr7.2.2.2.2.2.2.2.2.2.2.1) hx hb hts hown hG hR gFi_X14_325_11 shM.1 (ov_get 12 rfl rfl) dX14_row_189 ?_
        obtain ⟨c13, hf⟩ := gd_some hf
        obtain ⟨u14, eu14, hf⟩ := lt_some hf
        refine n_iast (la' := [((o + 1), a_tape), ((o + 2), rr1.2.2.2.2.1), ((o + 10), rr1.2.2.2.2.2), ((o + 11), rr7.2.2.2.2.2.2.2.2.2.2.2.1), ((o + 12), rr7.2.2.2.2.2.2.2.2.2.2.2.2.1), ((o + 13), rr7.2.2.2.2.2.2.2.2.2.2.2.2.2.1), ((o + 14), rr7.2.2.2.2.2.2.2.2.2.2.2.2.2.2.1), ((o + 15), rr7.2.2.2.2.2.2.2.2.2.2.2.2.2.2.2.1), ((o + 16), rr7.2.2.2.2.2.2.2.2.2.2.2.2.2.2.2.2.1), ((o + 17), rr7.2.2.2.2.2.2.2.2.2.2.2.2.2.2.2.2.2.1), ((o + 18), rr7.2.2.2.2.2.2.2.2.2.2.2.2.2.2.2.2.2.2), ((o + 19), u14), ((o + 20), x8_0.2.2.2)]) hx hb hG hR hS k_a_rowBy c13 hN_A 11 rfl eu14 rfl dX14_row_192 (fun H locs hR hS => ?_)
        refine lv_aload_n hx hb dX14_row_193 rfl (lv_at hl 0 rfl) ?_
        refine g_getr (b := (o + 19)) hx hb hts hown hG hR gFx_X14_66_11 shM.1 ((shM.2 18 _ rfl).2) dX14_row_194 ?_
        refine lv_iconst (v := 3) hx hb dX14_row_197 li_3 ?_
        refine lv_aload_n hx hb dX14_row_198 rfl (lv_at hl 0 rfl) ?_
        refine n_geti (v := rr7.2.2.2.2.2.2.2.2.1) hx hb hts hown hG hR gFi_X14_319_11 shM.1 (ov_get 10 rfl rfl) dX14_row_199 ?_
        obtain ⟨c15, hf⟩ := gd_some hf
        obtain ⟨u16, eu16, hf⟩ := lt_some hf
        refine n_iast (la' := [((o + 1), a_tape), ((o + 2), rr1.2.2.2.2.1), ((o + 10), rr1.2.2.2.2.2), ((o + 11), rr7.2.2.2.2.2.2.2.2.2.2.2.1), ((o + 12), rr7.2.2.2.2.2.2.2.2.2.2.2.2.1), ((o + 13), rr7.2.2.2.2.2.2.2.2.2.2.2.2.2.1), ((o + 14), rr7.2.2.2.2.2.2.2.2.2.2.2.2.2.2.1), ((o + 15), rr7.2.2.2.2.2.2.2.2.2.2.2.2.2.2.2.1), ((o + 16), rr7.2.2.2.2.2.2.2.2.2.2.2.2.2.2.2.2.1), ((o + 17), rr7.2.2.2.2.2.2.2.2.2.2.2.2.2.2.2.2.2.1), ((o + 18), rr7.2.2.2.2.2.2.2.2.2.2.2.2.2.2.2.2.2.2), ((o + 19), u16), ((o + 20), x8_0.2.2.2)]) hx hb hG hR hS k_a_rowBy c15 hN_A 11 rfl eu16 rfl dX14_row_202 (fun H locs hR hS => ?_)
        refine lv_aload_n hx hb dX14_row_203 rfl (lv_at hl 0 rfl) ?_
        refine g_getr (b := (o + 19)) hx hb hts hown hG hR gFx_X14_66_11 shM.1 ((shM.2 18 _ rfl).2) dX14_row_204 ?_
        refine lv_iconst (v := 4) hx hb dX14_row_207 li_4 ?_
        refine lv_aload_n hx hb dX14_row_208 rfl (lv_at hl 0 rfl) ?_
        refine n_geti (v := rr7.2.2.2.2.2.2.2.2.2.1) hx hb hts hown hG hR gFi_X14_322_11 shM.1 (ov_get 11 rfl rfl) dX14_row_209 ?_
        obtain ⟨c17, hf⟩ := gd_some hf
        obtain ⟨u18, eu18, hf⟩ := lt_some hf
        refine n_iast (la' := [((o + 1), a_tape), ((o + 2), rr1.2.2.2.2.1), ((o + 10), rr1.2.2.2.2.2), ((o + 11), rr7.2.2.2.2.2.2.2.2.2.2.2.1), ((o + 12), rr7.2.2.2.2.2.2.2.2.2.2.2.2.1), ((o + 13), rr7.2.2.2.2.2.2.2.2.2.2.2.2.2.1), ((o + 14), rr7.2.2.2.2.2.2.2.2.2.2.2.2.2.2.1), ((o + 15), rr7.2.2.2.2.2.2.2.2.2.2.2.2.2.2.2.1), ((o + 16), rr7.2.2.2.2.2.2.2.2.2.2.2.2.2.2.2.2.1), ((o + 17), rr7.2.2.2.2.2.2.2.2.2.2.2.2.2.2.2.2.2.1), ((o + 18), rr7.2.2.2.2.2.2.2.2.2.2.2.2.2.2.2.2.2.2), ((o + 19), u18), ((o + 20), x8_0.2.2.2)]) hx hb hG hR hS k_a_rowBy c17 hN_A 11 rfl eu18 rfl dX14_row_212 (fun H locs hR hS => ?_)
        refine lv_aload_n hx hb dX14_row_213 rfl (lv_at hl 0 rfl) ?_
        refine g_getr (b := (o + 19)) hx hb hts hown hG hR gFx_X14_66_11 shM.1 ((shM.2 18 _ rfl).2) dX14_row_214 ?_
        refine lv_iconst (v := 5) hx hb dX14_row_217 li_5 ?_
        refine lv_iload hx hb dX14_row_218 (lv_at hl 4 rfl) ?_
        obtain ⟨c19, hf⟩ := gd_some hf
        obtain ⟨u20, eu20, hf⟩ := lt_some hf
        refine n_iast (la' := [((o + 1), a_tape), ((o + 2), rr1.2.2.2.2.1), ((o + 10), rr1.2.2.2.2.2), ((o + 11), rr7.2.2.2.2.2.2.2.2.2.2.2.1), ((o + 12), rr7.2.2.2.2.2.2.2.2.2.2.2.2.1), ((o + 13), rr7.2.2.2.2.2.2.2.2.2.2.2.2.2.1), ((o + 14), rr7.2.2.2.2.2.2.2.2.2.2.2.2.2.2.1), ((o + 15), rr7.2.2.2.2.2.2.2.2.2.2.2.2.2.2.2.1), ((o + 16), rr7.2.2.2.2.2.2.2.2.2.2.2.2.2.2.2.2.1), ((o + 17), rr7.2.2.2.2.2.2.2.2.2.2.2.2.2.2.2.2.2.1), ((o + 18), rr7.2.2.2.2.2.2.2.2.2.2.2.2.2.2.2.2.2.2), ((o + 19), u20), ((o + 20), x8_0.2.2.2)]) hx hb hG hR hS k_a_rowBy c19 hN_A 11 rfl eu20 rfl dX14_row_220 (fun H locs hR hS => ?_)
        refine lv_iload_n hx hb dX14_row_221 rfl (lv_at hl 1 rfl) ?_
        obtain rfl := some_i hf
        exact hend _ _ _ _ dX14_row_222 hR hS
      refine whl_walk (P := fun (s8 : Int32 × Int32 × Int32 × Int32 × (Nat → Int32)) => ∀ (H : Heap) (locs : List Loc) (ls : Array Slot), RS G K (ov I [(1100, o, (0 : Int32)), (1102, o, rr1.2.1), (1122, o, rr1.2.2.1), (1133, o, rr7.2.1), (1134, o, rr7.2.2.1), (1135, o, rr7.2.2.2.1), (1136, o, rr7.2.2.2.2.1), (1137, o, rr7.2.2.2.2.2.1), (1138, o, rr7.2.2.2.2.2.2.1), (1139, o, rr7.2.2.2.2.2.2.2.1), (1140, o, rr7.2.2.2.2.2.2.2.2.1), (1141, o, rr7.2.2.2.2.2.2.2.2.2.1), (1142, o, rr7.2.2.2.2.2.2.2.2.2.2.1), (1145, o, i_rowMany)]) J X (ova A [((o + 1), a_tape), ((o + 2), rr1.2.2.2.2.1), ((o + 10), rr1.2.2.2.2.2), ((o + 11), rr7.2.2.2.2.2.2.2.2.2.2.2.1), ((o + 12), rr7.2.2.2.2.2.2.2.2.2.2.2.2.1), ((o + 13), rr7.2.2.2.2.2.2.2.2.2.2.2.2.2.1), ((o + 14), rr7.2.2.2.2.2.2.2.2.2.2.2.2.2.2.1), ((o + 15), rr7.2.2.2.2.2.2.2.2.2.2.2.2.2.2.2.1), ((o + 16), rr7.2.2.2.2.2.2.2.2.2.2.2.2.2.2.2.2.1), ((o + 17), rr7.2.2.2.2.2.2.2.2.2.2.2.2.2.2.2.2.2.1), ((o + 18), rr7.2.2.2.2.2.2.2.2.2.2.2.2.2.2.2.2.2.2), ((o + 19), a_rowBy), ((o + 20), s8.2.2.2.2)]) B Q H → va_S (gA G) s.heap H locs → lv_has ls 8 [(0, .ref o), (2, .int rr7.1), (3, .int s8.1), (4, .int s8.2.1), (5, .int s8.2.2.1), (6, .int s8.2.2.2.1)] → W p l e ({ frames := 7, cells := 0, slots := 0, locals := 153 } : Room) s m args below meth c H locs 0 0 Z (F0 m 57 ls [])) (r := rl8) ?_ FU _ hw8 _ _ _ hR hS (lv_sub hl [5, 4, 3, 2, 1, 0] rfl)
      clear hR hS hl hf
      intro s8 o8 hf hk8 H locs ls hR hS hl
      obtain ⟨w8_3, w8_4, w8_5, w8_6, w8_a_rowDone⟩ := s8
      have hf : f14_row_s8 rr7 w8_3 w8_4 w8_5 w8_6 w8_a_rowDone = some o8 := hf
      have hR : RS G K (ov I [(1100, o, (0 : Int32)), (1102, o, rr1.2.1), (1122, o, rr1.2.2.1), (1133, o, rr7.2.1), (1134, o, rr7.2.2.1), (1135, o, rr7.2.2.2.1), (1136, o, rr7.2.2.2.2.1), (1137, o, rr7.2.2.2.2.2.1), (1138, o, rr7.2.2.2.2.2.2.1), (1139, o, rr7.2.2.2.2.2.2.2.1), (1140, o, rr7.2.2.2.2.2.2.2.2.1), (1141, o, rr7.2.2.2.2.2.2.2.2.2.1), (1142, o, rr7.2.2.2.2.2.2.2.2.2.2.1), (1145, o, i_rowMany)]) J X (ova A [((o + 1), a_tape), ((o + 2), rr1.2.2.2.2.1), ((o + 10), rr1.2.2.2.2.2), ((o + 11), rr7.2.2.2.2.2.2.2.2.2.2.2.1), ((o + 12), rr7.2.2.2.2.2.2.2.2.2.2.2.2.1), ((o + 13), rr7.2.2.2.2.2.2.2.2.2.2.2.2.2.1), ((o + 14), rr7.2.2.2.2.2.2.2.2.2.2.2.2.2.2.1), ((o + 15), rr7.2.2.2.2.2.2.2.2.2.2.2.2.2.2.2.1), ((o + 16), rr7.2.2.2.2.2.2.2.2.2.2.2.2.2.2.2.2.1), ((o + 17), rr7.2.2.2.2.2.2.2.2.2.2.2.2.2.2.2.2.2.1), ((o + 18), rr7.2.2.2.2.2.2.2.2.2.2.2.2.2.2.2.2.2.2), ((o + 19), a_rowBy), ((o + 20), w8_a_rowDone)]) B Q H := hR
      have hl : lv_has ls 8 [(0, .ref o), (2, .int rr7.1), (3, .int w8_3), (4, .int w8_4), (5, .int w8_5), (6, .int w8_6)] := hl
      unfold f14_row_s8 at hf
      refine lv_iload hx hb dX14_row_57 (lv_at hl 5 rfl) ?_
      refine lv_aload_n hx hb dX14_row_59 rfl (lv_at hl 0 rfl) ?_
      refine n_geti (v := rr7.2.1) hx hb hts hown hG hR gFi_X14_304_11 shM.1 (ov_get 3 rfl rfl) dX14_row_60 ?_
      refine lv_icmp_ge (tgt := 160) hx hb dX14_row_63 (by decide) (fun c21 => ?_) (fun c21 => ?_)
      · have hf := ite_t c21 hf
        obtain rfl := some_i hf
        replace hk8 : _ = rl8 := hk8
        subst hk8
        exact hx8_0 (w8_3, w8_4, w8_5, w8_a_rowDone) hfo8 _ _ _ hR hS (lv_sub hl [0, 1, 2, 3, 4] rfl)
      · have hf := ite_f c21 hf
        refine lv_aload_n hx hb dX14_row_66 rfl (lv_at hl 0 rfl) ?_
        refine g_getr (b := (o + 16)) hx hb hts hown hG hR gFx_X14_57_11 shM.1 ((shM.2 15 _ rfl).2) dX14_row_67 ?_
        refine lv_iload hx hb dX14_row_70 (lv_at hl 5 rfl) ?_
        obtain ⟨c22, hf⟩ := gd_some hf
        obtain ⟨v23, ev23, hf⟩ := lt_some hf
        refine n_iald (x := rr7.2.2.2.2.2.2.2.2.2.2.2.2.2.2.2.2.1) hx hb hG hR k_a_most c22 (ova_get 8 hN_A rfl) ev23 dX14_row_72 ?_
        refine lv_iload_n hx hb dX14_row_73 rfl (lv_at hl 2 rfl) ?_
        have hj89 : ∀ (j89_3 : Int32) (j89_4 : Int32), f14_row_j89 rr7 w8_5 w8_6 w8_a_rowDone j89_3 j89_4 = some o8 → ∀ (H : Heap) (locs : List Loc) (ls : Array Slot), RS G K (ov I [(1100, o, (0 : Int32)), (1102, o, rr1.2.1), (1122, o, rr1.2.2.1), (1133, o, rr7.2.1), (1134, o, rr7.2.2.1), (1135, o, rr7.2.2.2.1), (1136, o, rr7.2.2.2.2.1), (1137, o, rr7.2.2.2.2.2.1), (1138, o, rr7.2.2.2.2.2.2.1), (1139, o, rr7.2.2.2.2.2.2.2.1), (1140, o, rr7.2.2.2.2.2.2.2.2.1), (1141, o, rr7.2.2.2.2.2.2.2.2.2.1), (1142, o, rr7.2.2.2.2.2.2.2.2.2.2.1), (1145, o, i_rowMany)]) J X (ova A [((o + 1), a_tape), ((o + 2), rr1.2.2.2.2.1), ((o + 10), rr1.2.2.2.2.2), ((o + 11), rr7.2.2.2.2.2.2.2.2.2.2.2.1), ((o + 12), rr7.2.2.2.2.2.2.2.2.2.2.2.2.1), ((o + 13), rr7.2.2.2.2.2.2.2.2.2.2.2.2.2.1), ((o + 14), rr7.2.2.2.2.2.2.2.2.2.2.2.2.2.2.1), ((o + 15), rr7.2.2.2.2.2.2.2.2.2.2.2.2.2.2.2.1), ((o + 16), rr7.2.2.2.2.2.2.2.2.2.2.2.2.2.2.2.2.1), ((o + 17), rr7.2.2.2.2.2.2.2.2.2.2.2.2.2.2.2.2.2.1), ((o + 18), rr7.2.2.2.2.2.2.2.2.2.2.2.2.2.2.2.2.2.2), ((o + 19), a_rowBy), ((o + 20), w8_a_rowDone)]) B Q H → va_S (gA G) s.heap H locs → lv_has ls 8 [(0, .ref o), (2, .int rr7.1), (3, .int j89_3), (4, .int j89_4), (5, .int w8_5), (6, .int w8_6)] → W p l e ({ frames := 7, cells := 0, slots := 0, locals := 153 } : Room) s m args below meth c H locs 0 0 Z (F0 m 89 ls []) := by
          intro j89_3 j89_4 hf H locs ls hR hS hl
          unfold f14_row_j89 at hf
          refine lv_iload hx hb dX14_row_89 (lv_at hl 4 rfl) ?_
          refine lv_aload_n hx hb dX14_row_91 rfl (lv_at hl 0 rfl) ?_
          refine g_getr (b := (o + 12)) hx hb hts hown hG hR gFx_X14_45_11 shM.1 ((shM.2 11 _ rfl).2) dX14_row_92 ?_
          refine lv_iload hx hb dX14_row_95 (lv_at hl 5 rfl) ?_
          obtain ⟨c24, hf⟩ := gd_some hf
          obtain ⟨v25, ev25, hf⟩ := lt_some hf
          refine n_iald (x := rr7.2.2.2.2.2.2.2.2.2.2.2.2.1) hx hb hG hR k_a_load c24 (ova_get 4 hN_A rfl) ev25 dX14_row_97 ?_
          obtain ⟨v26, ev26, hf⟩ := lt_some hf
          refine n_iadd hx hb ev26 dX14_row_98 ?_
          refine lv_istore (lv' := [(5, .int v26), (0, .ref o), (2, .int rr7.1), (3, .int j89_3), (4, .int j89_4), (6, .int w8_6)]) hx hb dX14_row_99 hl (by decide) rfl (fun ls hl => ?_)
          refine lv_iconst (v := 0) hx hb dX14_row_101 li_0 ?_
          refine lv_istore (lv' := [(7, .int (0 : Int32)), (5, .int v26), (0, .ref o), (2, .int rr7.1), (3, .int j89_3), (4, .int j89_4), (6, .int w8_6)]) hx hb dX14_row_102 hl (by decide) rfl (fun ls hl => ?_)
          obtain ⟨rl27, hw27, hfo27⟩ := bind_s hf
          have hx27_0 : ∀ (x27_0 : Int32), f14_row_e27_0 rr7 w8_6 w8_a_rowDone j89_3 j89_4 x27_0 = some o8 → ∀ (H : Heap) (locs : List Loc) (ls : Array Slot), RS G K (ov I [(1100, o, (0 : Int32)), (1102, o, rr1.2.1), (1122, o, rr1.2.2.1), (1133, o, rr7.2.1), (1134, o, rr7.2.2.1), (1135, o, rr7.2.2.2.1), (1136, o, rr7.2.2.2.2.1), (1137, o, rr7.2.2.2.2.2.1), (1138, o, rr7.2.2.2.2.2.2.1), (1139, o, rr7.2.2.2.2.2.2.2.1), (1140, o, rr7.2.2.2.2.2.2.2.2.1), (1141, o, rr7.2.2.2.2.2.2.2.2.2.1), (1142, o, rr7.2.2.2.2.2.2.2.2.2.2.1), (1145, o, i_rowMany)]) J X (ova A [((o + 1), a_tape), ((o + 2), rr1.2.2.2.2.1), ((o + 10), rr1.2.2.2.2.2), ((o + 11), rr7.2.2.2.2.2.2.2.2.2.2.2.1), ((o + 12), rr7.2.2.2.2.2.2.2.2.2.2.2.2.1), ((o + 13), rr7.2.2.2.2.2.2.2.2.2.2.2.2.2.1), ((o + 14), rr7.2.2.2.2.2.2.2.2.2.2.2.2.2.2.1), ((o + 15), rr7.2.2.2.2.2.2.2.2.2.2.2.2.2.2.2.1), ((o + 16), rr7.2.2.2.2.2.2.2.2.2.2.2.2.2.2.2.2.1), ((o + 17), rr7.2.2.2.2.2.2.2.2.2.2.2.2.2.2.2.2.2.1), ((o + 18), rr7.2.2.2.2.2.2.2.2.2.2.2.2.2.2.2.2.2.2), ((o + 19), a_rowBy), ((o + 20), w8_a_rowDone)]) B Q H → va_S (gA G) s.heap H locs → lv_has ls 8 [(0, .ref o), (2, .int rr7.1), (3, .int j89_3), (4, .int j89_4), (5, .int x27_0), (6, .int w8_6)] → W p l e ({ frames := 7, cells := 0, slots := 0, locals := 153 } : Room) s m args below meth c H locs 0 0 Z (F0 m 140 ls []) := by
            intro x27_0 hf H locs ls hR hS hl
            unfold f14_row_e27_0 at hf
            refine lv_aload_n hx hb dX14_row_140 rfl (lv_at hl 0 rfl) ?_
            refine g_getr (b := (o + 20)) hx hb hts hown hG hR gFx_X14_69_11 shM.1 ((shM.2 19 _ rfl).2) dX14_row_141 ?_
            refine lv_iload hx hb dX14_row_144 (lv_at hl 5 rfl) ?_
            refine lv_aload_n hx hb dX14_row_146 rfl (lv_at hl 0 rfl) ?_
            refine g_getr (b := (o + 13)) hx hb hts hown hG hR gFx_X14_48_11 shM.1 ((shM.2 12 _ rfl).2) dX14_row_147 ?_
            refine lv_iload hx hb dX14_row_150 (lv_at hl 5 rfl) ?_
            obtain ⟨c28, hf⟩ := gd_some hf
            obtain ⟨v29, ev29, hf⟩ := lt_some hf
            refine n_iald (x := rr7.2.2.2.2.2.2.2.2.2.2.2.2.2.1) hx hb hG hR k_a_done c28 (ova_get 5 hN_A rfl) ev29 dX14_row_152 ?_
            obtain ⟨c30, hf⟩ := gd_some hf
            obtain ⟨u31, eu31, hf⟩ := lt_some hf
            refine n_iast (la' := [((o + 1), a_tape), ((o + 2), rr1.2.2.2.2.1), ((o + 10), rr1.2.2.2.2.2), ((o + 11), rr7.2.2.2.2.2.2.2.2.2.2.2.1), ((o + 12), rr7.2.2.2.2.2.2.2.2.2.2.2.2.1), ((o + 13), rr7.2.2.2.2.2.2.2.2.2.2.2.2.2.1), ((o + 14), rr7.2.2.2.2.2.2.2.2.2.2.2.2.2.2.1), ((o + 15), rr7.2.2.2.2.2.2.2.2.2.2.2.2.2.2.2.1), ((o + 16), rr7.2.2.2.2.2.2.2.2.2.2.2.2.2.2.2.2.1), ((o + 17), rr7.2.2.2.2.2.2.2.2.2.2.2.2.2.2.2.2.2.1), ((o + 18), rr7.2.2.2.2.2.2.2.2.2.2.2.2.2.2.2.2.2.2), ((o + 19), a_rowBy), ((o + 20), u31)]) hx hb hG hR hS k_a_rowDone c30 hN_A 12 rfl eu31 rfl dX14_row_153 (fun H locs hR hS => ?_)
            obtain ⟨v32, ev32, hf⟩ := lt_some hf
            refine lv_iinc (k := 5) (v := v32) (lv' := [(6, .int v32), (0, .ref o), (2, .int rr7.1), (3, .int j89_3), (4, .int j89_4), (5, .int x27_0)]) hx hb dX14_row_154 hl rfl (by rw [ev32]; rfl) (by decide) rfl (fun ls hl => ?_)
            refine lv_goto (tgt := 57) hx hb dX14_row_157 (by decide) ?_
            obtain rfl := some_i hf
            exact hk8 _ _ _ hR hS (lv_sub hl [1, 2, 3, 4, 5, 0] rfl)
          refine whl_walk (P := fun (s27 : Int32 × Int32) => ∀ (H : Heap) (locs : List Loc) (ls : Array Slot), RS G K (ov I [(1100, o, (0 : Int32)), (1102, o, rr1.2.1), (1122, o, rr1.2.2.1), (1133, o, rr7.2.1), (1134, o, rr7.2.2.1), (1135, o, rr7.2.2.2.1), (1136, o, rr7.2.2.2.2.1), (1137, o, rr7.2.2.2.2.2.1), (1138, o, rr7.2.2.2.2.2.2.1), (1139, o, rr7.2.2.2.2.2.2.2.1), (1140, o, rr7.2.2.2.2.2.2.2.2.1), (1141, o, rr7.2.2.2.2.2.2.2.2.2.1), (1142, o, rr7.2.2.2.2.2.2.2.2.2.2.1), (1145, o, i_rowMany)]) J X (ova A [((o + 1), a_tape), ((o + 2), rr1.2.2.2.2.1), ((o + 10), rr1.2.2.2.2.2), ((o + 11), rr7.2.2.2.2.2.2.2.2.2.2.2.1), ((o + 12), rr7.2.2.2.2.2.2.2.2.2.2.2.2.1), ((o + 13), rr7.2.2.2.2.2.2.2.2.2.2.2.2.2.1), ((o + 14), rr7.2.2.2.2.2.2.2.2.2.2.2.2.2.2.1), ((o + 15), rr7.2.2.2.2.2.2.2.2.2.2.2.2.2.2.2.1), ((o + 16), rr7.2.2.2.2.2.2.2.2.2.2.2.2.2.2.2.2.1), ((o + 17), rr7.2.2.2.2.2.2.2.2.2.2.2.2.2.2.2.2.2.1), ((o + 18), rr7.2.2.2.2.2.2.2.2.2.2.2.2.2.2.2.2.2.2), ((o + 19), a_rowBy), ((o + 20), w8_a_rowDone)]) B Q H → va_S (gA G) s.heap H locs → lv_has ls 8 [(0, .ref o), (2, .int rr7.1), (3, .int j89_3), (4, .int j89_4), (5, .int s27.1), (6, .int w8_6), (7, .int s27.2)] → W p l e ({ frames := 7, cells := 0, slots := 0, locals := 153 } : Room) s m args below meth c H locs 0 0 Z (F0 m 104 ls [])) (r := rl27) ?_ FU _ hw27 _ _ _ hR hS (lv_sub hl [2, 3, 4, 5, 1, 6, 0] rfl)
          clear hR hS hl hf
          intro s27 o27 hf hk27 H locs ls hR hS hl
          obtain ⟨w27_5, w27_7⟩ := s27
          have hf : f14_row_s27 rr7 w8_6 w27_5 w27_7 = some o27 := hf
          have hR : RS G K (ov I [(1100, o, (0 : Int32)), (1102, o, rr1.2.1), (1122, o, rr1.2.2.1), (1133, o, rr7.2.1), (1134, o, rr7.2.2.1), (1135, o, rr7.2.2.2.1), (1136, o, rr7.2.2.2.2.1), (1137, o, rr7.2.2.2.2.2.1), (1138, o, rr7.2.2.2.2.2.2.1), (1139, o, rr7.2.2.2.2.2.2.2.1), (1140, o, rr7.2.2.2.2.2.2.2.2.1), (1141, o, rr7.2.2.2.2.2.2.2.2.2.1), (1142, o, rr7.2.2.2.2.2.2.2.2.2.2.1), (1145, o, i_rowMany)]) J X (ova A [((o + 1), a_tape), ((o + 2), rr1.2.2.2.2.1), ((o + 10), rr1.2.2.2.2.2), ((o + 11), rr7.2.2.2.2.2.2.2.2.2.2.2.1), ((o + 12), rr7.2.2.2.2.2.2.2.2.2.2.2.2.1), ((o + 13), rr7.2.2.2.2.2.2.2.2.2.2.2.2.2.1), ((o + 14), rr7.2.2.2.2.2.2.2.2.2.2.2.2.2.2.1), ((o + 15), rr7.2.2.2.2.2.2.2.2.2.2.2.2.2.2.2.1), ((o + 16), rr7.2.2.2.2.2.2.2.2.2.2.2.2.2.2.2.2.1), ((o + 17), rr7.2.2.2.2.2.2.2.2.2.2.2.2.2.2.2.2.2.1), ((o + 18), rr7.2.2.2.2.2.2.2.2.2.2.2.2.2.2.2.2.2.2), ((o + 19), a_rowBy), ((o + 20), w8_a_rowDone)]) B Q H := hR
          have hl : lv_has ls 8 [(0, .ref o), (2, .int rr7.1), (3, .int j89_3), (4, .int j89_4), (5, .int w27_5), (6, .int w8_6), (7, .int w27_7)] := hl
          unfold f14_row_s27 at hf
          refine lv_iload hx hb dX14_row_104 (lv_at hl 6 rfl) ?_
          refine lv_aload_n hx hb dX14_row_106 rfl (lv_at hl 0 rfl) ?_
          refine g_getr (b := (o + 15)) hx hb hts hown hG hR gFx_X14_54_11 shM.1 ((shM.2 14 _ rfl).2) dX14_row_107 ?_
          refine lv_iload hx hb dX14_row_110 (lv_at hl 5 rfl) ?_
          obtain ⟨c33, hf⟩ := gd_some hf
          obtain ⟨v34, ev34, hf⟩ := lt_some hf
          refine n_iald (x := rr7.2.2.2.2.2.2.2.2.2.2.2.2.2.2.2.1) hx hb hG hR k_a_waits c33 (ova_get 7 hN_A rfl) ev34 dX14_row_112 ?_
          refine lv_icmp_ge (tgt := 140) hx hb dX14_row_113 (by decide) (fun c35 => ?_) (fun c35 => ?_)
          · have hf := ite_t c35 hf
            obtain rfl := some_i hf
            replace hk27 : _ = rl27 := hk27
            subst hk27
            exact hx27_0 w27_5 hfo27 _ _ _ hR hS (lv_sub hl [0, 1, 2, 3, 4, 5] rfl)
          · have hf := ite_f c35 hf
            refine lv_iload hx hb dX14_row_116 (lv_at hl 4 rfl) ?_
            refine lv_aload_n hx hb dX14_row_118 rfl (lv_at hl 0 rfl) ?_
            refine g_getr (b := (o + 14)) hx hb hts hown hG hR gFx_X14_51_11 shM.1 ((shM.2 13 _ rfl).2) dX14_row_119 ?_
            refine lv_bipush (v := 30) hx hb dX14_row_122 lb_30 ?_
            refine lv_iload hx hb dX14_row_124 (lv_at hl 5 rfl) ?_
            obtain ⟨v36, ev36, hf⟩ := lt_some hf
            refine n_imul hx hb ev36 dX14_row_126 ?_
            refine lv_iload hx hb dX14_row_127 (lv_at hl 6 rfl) ?_
            obtain ⟨v37, ev37, hf⟩ := lt_some hf
            refine n_iadd hx hb ev37 dX14_row_129 ?_
            obtain ⟨c38, hf⟩ := gd_some hf
            obtain ⟨v39, ev39, hf⟩ := lt_some hf
            refine n_iald (x := rr7.2.2.2.2.2.2.2.2.2.2.2.2.2.2.1) hx hb hG hR k_a_queue c38 (ova_get 6 hN_A rfl) ev39 dX14_row_130 ?_
            obtain ⟨v40, ev40, hf⟩ := lt_some hf
            refine n_iadd hx hb ev40 dX14_row_131 ?_
            refine lv_istore (lv' := [(5, .int v40), (0, .ref o), (2, .int rr7.1), (3, .int j89_3), (4, .int j89_4), (6, .int w8_6), (7, .int w27_7)]) hx hb dX14_row_132 hl (by decide) rfl (fun ls hl => ?_)
            obtain ⟨v41, ev41, hf⟩ := lt_some hf
            refine lv_iinc (k := 6) (v := v41) (lv' := [(7, .int v41), (5, .int v40), (0, .ref o), (2, .int rr7.1), (3, .int j89_3), (4, .int j89_4), (6, .int w8_6)]) hx hb dX14_row_134 hl rfl (by rw [ev41]; rfl) (by decide) rfl (fun ls hl => ?_)
            refine lv_goto (tgt := 104) hx hb dX14_row_137 (by decide) ?_
            obtain rfl := some_i hf
            exact hk27 _ _ _ hR hS (lv_sub hl [2, 3, 4, 5, 1, 6, 0] rfl)
        refine lv_icmp_le (tgt := 89) hx hb dX14_row_74 (by decide) (fun c42 => ?_) (fun c42 => ?_)
        · have hf := ite_t c42 hf
          exact hj89 w8_3 w8_4 hf _ _ _ hR hS (lv_sub hl [0, 1, 2, 3, 4, 5] rfl)
        · have hf := ite_f c42 hf
          refine lv_aload_n hx hb dX14_row_77 rfl (lv_at hl 0 rfl) ?_
          refine g_getr (b := (o + 16)) hx hb hts hown hG hR gFx_X14_57_11 shM.1 ((shM.2 15 _ rfl).2) dX14_row_78 ?_
          refine lv_iload hx hb dX14_row_81 (lv_at hl 5 rfl) ?_
          obtain ⟨c43, hf⟩ := gd_some hf
          obtain ⟨v44, ev44, hf⟩ := lt_some hf
          refine n_iald (x := rr7.2.2.2.2.2.2.2.2.2.2.2.2.2.2.2.2.1) hx hb hG hR k_a_most c43 (ova_get 8 hN_A rfl) ev44 dX14_row_83 ?_
          refine lv_istore_n (lv' := [(3, .int v44), (0, .ref o), (2, .int rr7.1), (4, .int w8_4), (5, .int w8_5), (6, .int w8_6)]) hx hb dX14_row_84 rfl hl (by decide) rfl (fun ls hl => ?_)
          refine lv_iload hx hb dX14_row_85 (lv_at hl 5 rfl) ?_
          refine lv_istore (lv' := [(4, .int w8_6), (3, .int v44), (0, .ref o), (2, .int rr7.1), (5, .int w8_5), (6, .int w8_6)]) hx hb dX14_row_87 hl (by decide) rfl (fun ls hl => ?_)
          exact hj89 v44 w8_6 hf _ _ _ hR hS (lv_sub hl [2, 3, 1, 0, 4, 5] rfl)
    · have hf := ite_t c4 hf
      refine lv_iconst (v := -1) hx hb dX14_row_27 li_m1 ?_
      obtain rfl := some_i hf
      exact hend _ _ _ _ dX14_row_28 hR hS
noncomputable def f14_tryOrder_e2_0 (x2_0 : Int32 × (Nat → Int32) × (Nat → Int32)) : Option (Int32 × (Nat → Int32) × (Nat → Int32)) :=
  some x2_0

noncomputable def f14_tryOrder_j140 (w2_4 : Int32) (j140_i_bestPeriod : Int32) (j140_a_order : Nat → Int32) (j140_a_bestRow : Nat → Int32) : Option ((Int32 × Int32 × (Nat → Int32) × (Nat → Int32)) ⊕ (Int32 × (Nat → Int32) × (Nat → Int32))) :=
  lt (w2_4 + (1 : Int32)) fun v5 =>
  some (.inl (v5, j140_i_bestPeriod, j140_a_order, j140_a_bestRow))

noncomputable def f14_tryOrder_j137 (q_X14_tryOrder : Int32 → Int32 → Int32 → Int32 → Int32 → (Nat → Int32) → (Nat → Int32) → (Nat → Int32) → (Nat → Int32) → Option (Int32 × (Nat → Int32) × (Nat → Int32))) (i_askedMany : Int32) (a_now : Nat → Int32) (a_asked : Nat → Int32) (w2_4 : Int32) (w2_i_bestPeriod : Int32) (w2_a_bestRow : Nat → Int32) (u10 : Nat → Int32) (v14 : Int32) (v16 : Int32) (j137_s0 : Int32) : Option ((Int32 × Int32 × (Nat → Int32) × (Nat → Int32)) ⊕ (Int32 × (Nat → Int32) × (Nat → Int32))) :=
  (q_X14_tryOrder v14 v16 j137_s0 w2_i_bestPeriod i_askedMany a_now u10 a_asked w2_a_bestRow).bind fun rr17 =>
  f14_tryOrder_j140 w2_4 rr17.1 rr17.2.1 rr17.2.2

noncomputable def f14_tryOrder_s2 (q_X14_tryOrder : Int32 → Int32 → Int32 → Int32 → Int32 → (Nat → Int32) → (Nat → Int32) → (Nat → Int32) → (Nat → Int32) → Option (Int32 × (Nat → Int32) × (Nat → Int32))) (p1 : Int32) (p2 : Int32) (p3 : Int32) (i_askedMany : Int32) (a_now : Nat → Int32) (a_asked : Nat → Int32) (w2_4 : Int32) (w2_i_bestPeriod : Int32) (w2_a_order : Nat → Int32) (w2_a_bestRow : Nat → Int32) : Option ((Int32 × Int32 × (Nat → Int32) × (Nat → Int32)) ⊕ (Int32 × (Nat → Int32) × (Nat → Int32))) :=
  if i_askedMany ≤ w2_4 then
    some (.inr (w2_i_bestPeriod, w2_a_order, w2_a_bestRow))
  else
    (f14_has p2 w2_4).bind fun rr4 =>
    if rr4 = 0 then
      gd (inb w2_4 7) <|
      lt (a_asked w2_4.toNatClampNeg) fun v8 =>
      gd (inb p1 7) <|
      lt (upd w2_a_order p1.toNatClampNeg v8) fun u10 =>
      gd (inb w2_4 7) <|
      lt (a_asked w2_4.toNatClampNeg) fun v12 =>
      (f14_timeOf p1 i_askedMany v12 a_now).bind fun rr13 =>
      lt (p1 + (1 : Int32)) fun v14 =>
      lt ((1 : Int32) <<< (w2_4 &&& 31)) fun v15 =>
      lt (p2 ||| v15) fun v16 =>
      if rr13 ≤ p3 then
        f14_tryOrder_j137 q_X14_tryOrder i_askedMany a_now a_asked w2_4 w2_i_bestPeriod w2_a_bestRow u10 v14 v16 p3
      else
        f14_tryOrder_j137 q_X14_tryOrder i_askedMany a_now a_asked w2_4 w2_i_bestPeriod w2_a_bestRow u10 v14 v16 rr13
    else
      f14_tryOrder_j140 w2_4 w2_i_bestPeriod w2_a_order w2_a_bestRow

noncomputable def f14_tryOrder_e19_0 (x19_0 : Int32 × (Nat → Int32) × (Nat → Int32)) : Option (Int32 × (Nat → Int32) × (Nat → Int32)) :=
  some x19_0

noncomputable def f14_tryOrder_s19 (p1 : Int32) (p3 : Int32) (a_order : Nat → Int32) (w19_4 : Int32) (w19_a_bestRow : Nat → Int32) : Option ((Int32 × (Nat → Int32)) ⊕ (Int32 × (Nat → Int32) × (Nat → Int32))) :=
  if p1 ≤ w19_4 then
    some (.inr (p3, a_order, w19_a_bestRow))
  else
    gd (inb w19_4 7) <|
    lt (a_order w19_4.toNatClampNeg) fun v22 =>
    gd (inb w19_4 7) <|
    lt (upd w19_a_bestRow w19_4.toNatClampNeg v22) fun u24 =>
    lt (w19_4 + (1 : Int32)) fun v25 =>
    some (.inl (v25, u24))

noncomputable def f14_tryOrder_j17 (q_X14_tryOrder : Int32 → Int32 → Int32 → Int32 → Int32 → (Nat → Int32) → (Nat → Int32) → (Nat → Int32) → (Nat → Int32) → Option (Int32 × (Nat → Int32) × (Nat → Int32))) (p1 : Int32) (p2 : Int32) (p3 : Int32) (i_bestPeriod : Int32) (i_askedMany : Int32) (a_now : Nat → Int32) (a_order : Nat → Int32) (a_asked : Nat → Int32) (a_bestRow : Nat → Int32) : Option (Int32 × (Nat → Int32) × (Nat → Int32)) :=
  if p1 = i_askedMany then
    (whl (fun (s19 : Int32 × (Nat → Int32)) => f14_tryOrder_s19 p1 p3 a_order s19.1 s19.2) FU ((0 : Int32), a_bestRow)).bind fun rl19 =>
    f14_tryOrder_e19_0 rl19
  else
    (whl (fun (s2 : Int32 × Int32 × (Nat → Int32) × (Nat → Int32)) => f14_tryOrder_s2 q_X14_tryOrder p1 p2 p3 i_askedMany a_now a_asked s2.1 s2.2.1 s2.2.2.1 s2.2.2.2) FU ((0 : Int32), i_bestPeriod, a_order, a_bestRow)).bind fun rl2 =>
    f14_tryOrder_e2_0 rl2

noncomputable def fb14_tryOrder (q_X14_tryOrder : Int32 → Int32 → Int32 → Int32 → Int32 → (Nat → Int32) → (Nat → Int32) → (Nat → Int32) → (Nat → Int32) → Option (Int32 × (Nat → Int32) × (Nat → Int32))) (p1 : Int32) (p2 : Int32) (p3 : Int32) (i_bestPeriod : Int32) (i_askedMany : Int32) (a_now : Nat → Int32) (a_order : Nat → Int32) (a_asked : Nat → Int32) (a_bestRow : Nat → Int32) : Option (Int32 × (Nat → Int32) × (Nat → Int32)) :=
  if i_bestPeriod = (-1 : Int32) then
    f14_tryOrder_j17 q_X14_tryOrder p1 p2 p3 i_bestPeriod i_askedMany a_now a_order a_asked a_bestRow
  else
    if p3 < i_bestPeriod then
      f14_tryOrder_j17 q_X14_tryOrder p1 p2 p3 i_bestPeriod i_askedMany a_now a_order a_asked a_bestRow
    else
      some (i_bestPeriod, a_order, a_bestRow)
noncomputable def fG_X14_tryOrder : Nat → (Int32 → Int32 → Int32 → Int32 → Int32 → (Nat → Int32) → (Nat → Int32) → (Nat → Int32) → (Nat → Int32) → Option (Int32 × (Nat → Int32) × (Nat → Int32)))
  | 0 => fun _ _ _ _ _ _ _ _ _ => none
  | d + 1 => fb14_tryOrder (fG_X14_tryOrder d)
noncomputable def f14_tryOrder (d : Nat) : Int32 → Int32 → Int32 → Int32 → Int32 → (Nat → Int32) → (Nat → Int32) → (Nat → Int32) → (Nat → Int32) → Option (Int32 × (Nat → Int32) × (Nat → Int32)) := (fG_X14_tryOrder d)
set_option maxHeartbeats 4000000 in
theorem w14_tryOrder (l : Launch) (d : Nat) (q_X14_tryOrder : Int32 → Int32 → Int32 → Int32 → Int32 → (Nat → Int32) → (Nat → Int32) → (Nat → Int32) → (Nat → Int32) → Option (Int32 × (Nat → Int32) × (Nat → Int32))) (ih_X14_tryOrder : ∀ (G : gG) (K : gK) (I : gI) (J : gJ) (X : gX) (A : gI) (B : gJ) (Q : gX) (o : Nat) (shM : Sh K X o 11 rows11) (p1 : Int32) (p2 : Int32) (p3 : Int32) (i_bestPeriod : Int32) (i_askedMany : Int32) (a_now : Nat → Int32) (a_order : Nat → Int32) (a_asked : Nat → Int32) (a_bestRow : Nat → Int32) (e_i_bestPeriod : I 1150 o = i_bestPeriod) (e_i_askedMany : I 1152 o = i_askedMany) (e_a_now : A (o + 2) = a_now) (e_a_order : A (o + 21) = a_order) (e_a_asked : A (o + 22) = a_asked) (e_a_bestRow : A (o + 23) = a_bestRow) (out : Int32 × (Nat → Int32) × (Nat → Int32)) (hf : q_X14_tryOrder p1 p2 p3 i_bestPeriod i_askedMany a_now a_order a_asked a_bestRow = some out) , GMet l yX14_tryOrder cX14_tryOrder 6 none (d + 3) (d * 25 + 65) G [.ref o, .int p1, .int p2, .int p3] K I J X A B Q none K (ov I [(1150, o, out.1)]) J X (ova A [((o + 2), a_now), ((o + 21), out.2.1), ((o + 22), a_asked), ((o + 23), out.2.2)]) B Q 0 0) : ∀ (G : gG) (K : gK) (I : gI) (J : gJ) (X : gX) (A : gI) (B : gJ) (Q : gX) (o : Nat) (shM : Sh K X o 11 rows11) (p1 : Int32) (p2 : Int32) (p3 : Int32) (i_bestPeriod : Int32) (i_askedMany : Int32) (a_now : Nat → Int32) (a_order : Nat → Int32) (a_asked : Nat → Int32) (a_bestRow : Nat → Int32) (e_i_bestPeriod : I 1150 o = i_bestPeriod) (e_i_askedMany : I 1152 o = i_askedMany) (e_a_now : A (o + 2) = a_now) (e_a_order : A (o + 21) = a_order) (e_a_asked : A (o + 22) = a_asked) (e_a_bestRow : A (o + 23) = a_bestRow) (out : Int32 × (Nat → Int32) × (Nat → Int32)) (hf : fb14_tryOrder q_X14_tryOrder p1 p2 p3 i_bestPeriod i_askedMany a_now a_order a_asked a_bestRow = some out), GMet l yX14_tryOrder cX14_tryOrder 6 none ((d + 1) + 3) ((d + 1) * 25 + 65) G [.ref o, .int p1, .int p2, .int p3] K I J X A B Q none K (ov I [(1150, o, out.1)]) J X (ova A [((o + 2), a_now), ((o + 21), out.2.1), ((o + 22), a_asked), ((o + 23), out.2.2)]) B Q 0 0 := by
  intro G K I J X A B Q o shM p1 p2 p3 i_bestPeriod i_askedMany a_now a_order a_asked a_bestRow e_i_bestPeriod e_i_askedMany e_a_now e_a_order e_a_asked e_a_bestRow out hf
  refine GMet.of (y := yX14_tryOrder) rfl (Nat.le_of_ble_eq_true rfl) rfl ?_
  intro p e s m below meth c ls hx hb hr hml hlocks hts hown hname hG hR hl
  have hown : s.vm.findClass RX14 = some m.cls := hown
  have k_a_now : K (o + 2) = some (.inr (0, 800)) := (shM.2 1 _ rfl).1
  have k_a_order : K (o + 21) = some (.inr (0, 7)) := (shM.2 20 _ rfl).1
  have k_a_asked : K (o + 22) = some (.inr (0, 7)) := (shM.2 21 _ rfl).1
  have k_a_bestRow : K (o + 23) = some (.inr (0, 7)) := (shM.2 22 _ rfl).1
  have hN_A : nda [(o + 2), (o + 21), (o + 22), (o + 23)] := nd_off o [2, 21, 22, 23] rfl
  have hR : RS G K (ov I [(1150, o, i_bestPeriod)]) J X (ova A [((o + 2), a_now), ((o + 21), a_order), ((o + 22), a_asked), ((o + 23), a_bestRow)]) B Q s.heap := hR.to (Eq.symm (ov_sc e_i_bestPeriod rfl)) rfl rfl (Eq.symm (ova_sc e_a_now (ova_sc e_a_order (ova_sc e_a_asked (ova_sc e_a_bestRow rfl))))) rfl rfl
  have hS : va_S (gA G) s.heap s.heap [] := va_S.rf
  have hend : ∀ (pc : Nat) (H : Heap) (locs : List Loc) (ls : Array Slot), decode cX14_tryOrder pc = .ok (.return_, 1) → RS G K (ov I [(1150, o, out.1)]) J X (ova A [((o + 2), a_now), ((o + 21), out.2.1), ((o + 22), a_asked), ((o + 23), out.2.2)]) B Q H → va_S (gA G) s.heap H locs → W p l e ({ frames := (d + 1) + 3, cells := 0, slots := 0, locals := (d + 1) * 25 + 65 } : Room) s m ([.ref o, .int p1, .int p2, .int p3] : List Value).toArray below meth c H locs 0 0 (MQ below (gQ G none K (ov I [(1150, o, out.1)]) J X (ova A [((o + 2), a_now), ((o + 21), out.2.1), ((o + 22), a_asked), ((o + 23), out.2.2)]) B Q) ([.ref o, .int p1, .int p2, .int p3] : List Value).toArray s 0 0 (gA G)) (F0 m pc ls []) := fun pc H locs ls hd hR hS => g_vret hx hb hr hlocks hG hR hS rfl hd
  generalize MQ below (gQ G none K (ov I [(1150, o, out.1)]) J X (ova A [((o + 2), a_now), ((o + 21), out.2.1), ((o + 22), a_asked), ((o + 23), out.2.2)]) B Q) ([.ref o, .int p1, .int p2, .int p3] : List Value).toArray s 0 0 (gA G) = Z at hend ⊢
  generalize ([.ref o, .int p1, .int p2, .int p3] : List Value).toArray = args at hts hend ⊢
  unfold fb14_tryOrder at hf
  refine lv_aload_n hx hb dX14_tryOrder_0 rfl (lv_at hl 0 rfl) ?_
  refine n_geti (v := i_bestPeriod) hx hb hts hown hG hR gFi_X14_386_11 shM.1 (ov_get 0 rfl rfl) dX14_tryOrder_1 ?_
  refine lv_iconst (v := -1) hx hb dX14_tryOrder_4 li_m1 ?_
  have hj17 : ∀ (_ : Unit), f14_tryOrder_j17 q_X14_tryOrder p1 p2 p3 i_bestPeriod i_askedMany a_now a_order a_asked a_bestRow = some out → ∀ (H : Heap) (locs : List Loc) (ls : Array Slot), RS G K (ov I [(1150, o, i_bestPeriod)]) J X (ova A [((o + 2), a_now), ((o + 21), a_order), ((o + 22), a_asked), ((o + 23), a_bestRow)]) B Q H → va_S (gA G) s.heap H locs → lv_has ls 6 [(0, .ref o), (1, .int p1), (2, .int p2), (3, .int p3)] → W p l e ({ frames := (d + 1) + 3, cells := 0, slots := 0, locals := (d + 1) * 25 + 65 } : Room) s m args below meth c H locs 0 0 Z (F0 m 17 ls []) := by
    intro _ hf H locs ls hR hS hl
    unfold f14_tryOrder_j17 at hf
    refine lv_iload_n hx hb dX14_tryOrder_17 rfl (lv_at hl 1 rfl) ?_
    refine lv_aload_n hx hb dX14_tryOrder_18 rfl (lv_at hl 0 rfl) ?_
    refine n_geti (v := i_askedMany) hx hb hts hown hG hR gFi_X14_389_11 shM.1 ((congrFun (ov_no rfl) _).trans e_i_askedMany) dX14_tryOrder_19 ?_
    refine lv_icmp_ne (tgt := 60) hx hb dX14_tryOrder_22 (by decide) (fun c1 => ?_) (fun c1 => ?_)
    · have hf := ite_f c1 hf
      refine lv_iconst (v := 0) hx hb dX14_tryOrder_60 li_0 ?_
      refine lv_istore (lv' := [(4, .int (0 : Int32)), (0, .ref o), (1, .int p1), (2, .int p2), (3, .int p3)]) hx hb dX14_tryOrder_61 hl (by decide) rfl (fun ls hl => ?_)
      obtain ⟨rl2, hw2, hfo2⟩ := bind_s hf
      have hx2_0 : ∀ (x2_0 : Int32 × (Nat → Int32) × (Nat → Int32)), f14_tryOrder_e2_0 x2_0 = some out → ∀ (pc : Nat) (H : Heap) (locs : List Loc) (ls : Array Slot), decode cX14_tryOrder pc = .ok (.return_, 1) → RS G K (ov I [(1150, o, x2_0.1)]) J X (ova A [((o + 2), a_now), ((o + 21), x2_0.2.1), ((o + 22), a_asked), ((o + 23), x2_0.2.2)]) B Q H → va_S (gA G) s.heap H locs → W p l e ({ frames := (d + 1) + 3, cells := 0, slots := 0, locals := (d + 1) * 25 + 65 } : Room) s m args below meth c H locs 0 0 Z (F0 m pc ls []) := by
        intro x2_0 hf pc H locs ls hd hR hS
        unfold f14_tryOrder_e2_0 at hf
        obtain rfl := some_i hf
        exact hend _ _ _ _ hd hR hS
      refine whl_walk (P := fun (s2 : Int32 × Int32 × (Nat → Int32) × (Nat → Int32)) => ∀ (H : Heap) (locs : List Loc) (ls : Array Slot), RS G K (ov I [(1150, o, s2.2.1)]) J X (ova A [((o + 2), a_now), ((o + 21), s2.2.2.1), ((o + 22), a_asked), ((o + 23), s2.2.2.2)]) B Q H → va_S (gA G) s.heap H locs → lv_has ls 6 [(0, .ref o), (1, .int p1), (2, .int p2), (3, .int p3), (4, .int s2.1)] → W p l e ({ frames := (d + 1) + 3, cells := 0, slots := 0, locals := (d + 1) * 25 + 65 } : Room) s m args below meth c H locs 0 0 Z (F0 m 63 ls [])) (r := rl2) ?_ FU _ hw2 _ _ _ hR hS (lv_sub hl [1, 2, 3, 4, 0] rfl)
      clear hR hS hl hf
      intro s2 o2 hf hk2 H locs ls hR hS hl
      obtain ⟨w2_4, w2_i_bestPeriod, w2_a_order, w2_a_bestRow⟩ := s2
      have hf : f14_tryOrder_s2 q_X14_tryOrder p1 p2 p3 i_askedMany a_now a_asked w2_4 w2_i_bestPeriod w2_a_order w2_a_bestRow = some o2 := hf
      have hR : RS G K (ov I [(1150, o, w2_i_bestPeriod)]) J X (ova A [((o + 2), a_now), ((o + 21), w2_a_order), ((o + 22), a_asked), ((o + 23), w2_a_bestRow)]) B Q H := hR
      have hl : lv_has ls 6 [(0, .ref o), (1, .int p1), (2, .int p2), (3, .int p3), (4, .int w2_4)] := hl
      unfold f14_tryOrder_s2 at hf
      refine lv_iload hx hb dX14_tryOrder_63 (lv_at hl 4 rfl) ?_
      refine lv_aload_n hx hb dX14_tryOrder_65 rfl (lv_at hl 0 rfl) ?_
      refine n_geti (v := i_askedMany) hx hb hts hown hG hR gFi_X14_389_11 shM.1 ((congrFun (ov_no rfl) _).trans e_i_askedMany) dX14_tryOrder_66 ?_
      refine lv_icmp_ge (tgt := 146) hx hb dX14_tryOrder_69 (by decide) (fun c3 => ?_) (fun c3 => ?_)
      · have hf := ite_t c3 hf
        obtain rfl := some_i hf
        replace hk2 : _ = rl2 := hk2
        subst hk2
        exact hx2_0 (w2_i_bestPeriod, w2_a_order, w2_a_bestRow) hfo2 _ _ _ _ dX14_tryOrder_146 hR hS
      · have hf := ite_f c3 hf
        refine lv_iload_n hx hb dX14_tryOrder_72 rfl (lv_at hl 2 rfl) ?_
        refine lv_iload hx hb dX14_tryOrder_73 (lv_at hl 4 rfl) ?_
        obtain ⟨rr4, hrr4, hf⟩ := bind_s hf
        refine g0_cS (rm := (0, 0)) (As := [.int p2, .int w2_4]) (rest := []) ⟨hx, hb, hml, hown, hts⟩ hG hR hS (m14_has l G K (ov I [(1150, o, w2_i_bestPeriod)]) J X (ova A [((o + 2), a_now), ((o + 21), w2_a_order), ((o + 22), a_asked), ((o + 23), w2_a_bestRow)]) B Q p2 w2_4 rr4 hrr4) (cwS 2 hts gi_X14_258 rfl rfl rfl hd_X14_has ⟨by dsimp only; omega, by dsimp only; omega⟩) rfl hl.1 (Nat.le_of_ble_eq_true rfl) dX14_tryOrder_75 ⟨Nat.le_refl _, Nat.le_refl _⟩ rfl (fun H locs hR hS => ?_)
        have hj140 : ∀ (j140_i_bestPeriod : Int32) (j140_a_order : Nat → Int32) (j140_a_bestRow : Nat → Int32), f14_tryOrder_j140 w2_4 j140_i_bestPeriod j140_a_order j140_a_bestRow = some o2 → ∀ (H : Heap) (locs : List Loc) (ls : Array Slot), RS G K (ov I [(1150, o, j140_i_bestPeriod)]) J X (ova A [((o + 2), a_now), ((o + 21), j140_a_order), ((o + 22), a_asked), ((o + 23), j140_a_bestRow)]) B Q H → va_S (gA G) s.heap H locs → lv_has ls 6 [(0, .ref o), (1, .int p1), (2, .int p2), (3, .int p3), (4, .int w2_4)] → W p l e ({ frames := (d + 1) + 3, cells := 0, slots := 0, locals := (d + 1) * 25 + 65 } : Room) s m args below meth c H locs 0 0 Z (F0 m 140 ls []) := by
          intro j140_i_bestPeriod j140_a_order j140_a_bestRow hf H locs ls hR hS hl
          unfold f14_tryOrder_j140 at hf
          obtain ⟨v5, ev5, hf⟩ := lt_some hf
          refine lv_iinc (k := 4) (v := v5) (lv' := [(4, .int v5), (0, .ref o), (1, .int p1), (2, .int p2), (3, .int p3)]) hx hb dX14_tryOrder_140 hl rfl (by rw [ev5]; rfl) (by decide) rfl (fun ls hl => ?_)
          refine lv_goto (tgt := 63) hx hb dX14_tryOrder_143 (by decide) ?_
          obtain rfl := some_i hf
          exact hk2 _ _ _ hR hS (lv_sub hl [1, 2, 3, 4, 0] rfl)
        refine lv_if_eq (tgt := 84) hx hb dX14_tryOrder_78 (by decide) (fun c6 => ?_) (fun c6 => ?_)
        · have hf := ite_t c6 hf
          refine lv_aload_n hx hb dX14_tryOrder_84 rfl (lv_at hl 0 rfl) ?_
          refine g_getr (b := (o + 21)) hx hb hts hown hG hR gFx_X14_72_11 shM.1 ((shM.2 20 _ rfl).2) dX14_tryOrder_85 ?_
          refine lv_iload_n hx hb dX14_tryOrder_88 rfl (lv_at hl 1 rfl) ?_
          refine lv_aload_n hx hb dX14_tryOrder_89 rfl (lv_at hl 0 rfl) ?_
          refine g_getr (b := (o + 22)) hx hb hts hown hG hR gFx_X14_75_11 shM.1 ((shM.2 21 _ rfl).2) dX14_tryOrder_90 ?_
          refine lv_iload hx hb dX14_tryOrder_93 (lv_at hl 4 rfl) ?_
          obtain ⟨c7, hf⟩ := gd_some hf
          obtain ⟨v8, ev8, hf⟩ := lt_some hf
          refine n_iald (x := a_asked) hx hb hG hR k_a_asked c7 (ova_get 2 hN_A rfl) ev8 dX14_tryOrder_95 ?_
          obtain ⟨c9, hf⟩ := gd_some hf
          obtain ⟨u10, eu10, hf⟩ := lt_some hf
          refine n_iast (la' := [((o + 2), a_now), ((o + 21), u10), ((o + 22), a_asked), ((o + 23), w2_a_bestRow)]) hx hb hG hR hS k_a_order c9 hN_A 1 rfl eu10 rfl dX14_tryOrder_96 (fun H locs hR hS => ?_)
          refine lv_aload_n hx hb dX14_tryOrder_97 rfl (lv_at hl 0 rfl) ?_
          refine lv_iload_n hx hb dX14_tryOrder_98 rfl (lv_at hl 1 rfl) ?_
          refine lv_aload_n hx hb dX14_tryOrder_99 rfl (lv_at hl 0 rfl) ?_
          refine n_geti (v := i_askedMany) hx hb hts hown hG hR gFi_X14_389_11 shM.1 ((congrFun (ov_no rfl) _).trans e_i_askedMany) dX14_tryOrder_100 ?_
          refine lv_aload_n hx hb dX14_tryOrder_103 rfl (lv_at hl 0 rfl) ?_
          refine g_getr (b := (o + 22)) hx hb hts hown hG hR gFx_X14_75_11 shM.1 ((shM.2 21 _ rfl).2) dX14_tryOrder_104 ?_
          refine lv_iload hx hb dX14_tryOrder_107 (lv_at hl 4 rfl) ?_
          obtain ⟨c11, hf⟩ := gd_some hf
          obtain ⟨v12, ev12, hf⟩ := lt_some hf
          refine n_iald (x := a_asked) hx hb hG hR k_a_asked c11 (ova_get 2 hN_A rfl) ev12 dX14_tryOrder_109 ?_
          obtain ⟨rr13, hrr13, hf⟩ := bind_s hf
          refine g0_cV (rm := (2, 42)) (As := [.int p1, .int i_askedMany, .int v12]) (rest := []) ⟨hx, hb, hml, hown, hts⟩ hG hR hS (m14_timeOf l G K (ov I [(1150, o, w2_i_bestPeriod)]) J X (ova A [((o + 2), a_now), ((o + 21), u10), ((o + 22), a_asked), ((o + 23), w2_a_bestRow)]) B Q o shM p1 i_askedMany v12 a_now (ova_get 0 hN_A rfl) rr13 hrr13) (cwV 3 hts gi_X14_347 rfl rfl rfl hd_X14_timeOf ⟨by dsimp only; omega, by dsimp only; omega⟩) shM.1 rfl rfl hl.1 (Nat.le_of_ble_eq_true rfl) dX14_tryOrder_110 ⟨Nat.le_refl _, Nat.le_refl _⟩ rfl (fun H locs hR hS => ?_)
          refine lv_istore (lv' := [(5, .int rr13), (0, .ref o), (1, .int p1), (2, .int p2), (3, .int p3), (4, .int w2_4)]) hx hb dX14_tryOrder_113 hl (by decide) rfl (fun ls hl => ?_)
          refine lv_aload_n hx hb dX14_tryOrder_115 rfl (lv_at hl 1 rfl) ?_
          refine lv_iload_n hx hb dX14_tryOrder_116 rfl (lv_at hl 2 rfl) ?_
          refine lv_iconst (v := 1) hx hb dX14_tryOrder_117 li_1 ?_
          obtain ⟨v14, ev14, hf⟩ := lt_some hf
          refine n_iadd hx hb ev14 dX14_tryOrder_118 ?_
          refine lv_iload_n hx hb dX14_tryOrder_119 rfl (lv_at hl 3 rfl) ?_
          refine lv_iconst (v := 1) hx hb dX14_tryOrder_120 li_1 ?_
          refine lv_iload hx hb dX14_tryOrder_121 (lv_at hl 5 rfl) ?_
          obtain ⟨v15, ev15, hf⟩ := lt_some hf
          refine n_ishl hx hb ev15 dX14_tryOrder_123 ?_
          obtain ⟨v16, ev16, hf⟩ := lt_some hf
          refine n_ior hx hb ev16 dX14_tryOrder_124 ?_
          refine lv_iload hx hb dX14_tryOrder_125 (lv_at hl 0 rfl) ?_
          refine lv_iload_n hx hb dX14_tryOrder_127 rfl (lv_at hl 4 rfl) ?_
          have hj137 : ∀ (j137_s0 : Int32), f14_tryOrder_j137 q_X14_tryOrder i_askedMany a_now a_asked w2_4 w2_i_bestPeriod w2_a_bestRow u10 v14 v16 j137_s0 = some o2 → ∀ (H : Heap) (locs : List Loc) (ls : Array Slot), RS G K (ov I [(1150, o, w2_i_bestPeriod)]) J X (ova A [((o + 2), a_now), ((o + 21), u10), ((o + 22), a_asked), ((o + 23), w2_a_bestRow)]) B Q H → va_S (gA G) s.heap H locs → lv_has ls 6 [(0, .ref o), (1, .int p1), (2, .int p2), (3, .int p3), (4, .int w2_4)] → W p l e ({ frames := (d + 1) + 3, cells := 0, slots := 0, locals := (d + 1) * 25 + 65 } : Room) s m args below meth c H locs 0 0 Z (F0 m 137 ls [.int j137_s0, .int v16, .int v14, .ref o]) := by
            intro j137_s0 hf H locs ls hR hS hl
            unfold f14_tryOrder_j137 at hf
            obtain ⟨rr17, hrr17, hf⟩ := bind_s hf
            refine g0_cVv (rm := (d + 3, d * 25 + 65)) (As := [.int v14, .int v16, .int j137_s0]) (rest := []) ⟨hx, hb, hml, hown, hts⟩ hG hR hS (ih_X14_tryOrder G K (ov I [(1150, o, w2_i_bestPeriod)]) J X (ova A [((o + 2), a_now), ((o + 21), u10), ((o + 22), a_asked), ((o + 23), w2_a_bestRow)]) B Q o shM v14 v16 j137_s0 w2_i_bestPeriod i_askedMany a_now u10 a_asked w2_a_bestRow (ov_get 0 rfl rfl) ((congrFun (ov_no rfl) _).trans e_i_askedMany) (ova_get 0 hN_A rfl) (ova_get 1 hN_A rfl) (ova_get 2 hN_A rfl) (ova_get 3 hN_A rfl) rr17 hrr17) (cwV 3 hts gi_X14_392 rfl rfl rfl hd_X14_tryOrder ⟨by dsimp only; omega, by dsimp only; omega⟩) shM.1 rfl rfl hl.1 (Nat.le_of_ble_eq_true rfl) dX14_tryOrder_137 ⟨Nat.le_refl _, Nat.le_refl _⟩ rfl (fun H locs hR hS => ?_)
            have hR : RS G K (ov I [(1150, o, rr17.1)]) J X (ova A [((o + 2), a_now), ((o + 21), rr17.2.1), ((o + 22), a_asked), ((o + 23), rr17.2.2)]) B Q H := hR.to (ov_merge (l := [(1150, o, w2_i_bestPeriod)]) rfl [0] [(1150, o, rr17.1)] rfl rfl) rfl rfl (ova_merge (l := [((o + 2), a_now), ((o + 21), u10), ((o + 22), a_asked), ((o + 23), w2_a_bestRow)]) hN_A [0, 1, 2, 3] [((o + 2), a_now), ((o + 21), rr17.2.1), ((o + 22), a_asked), ((o + 23), rr17.2.2)] rfl rfl) rfl rfl
            exact hj140 rr17.1 rr17.2.1 rr17.2.2 hf _ _ _ hR hS (lv_sub hl [0, 1, 2, 3, 4] rfl)
          refine lv_icmp_le (tgt := 136) hx hb dX14_tryOrder_128 (by decide) (fun c18 => ?_) (fun c18 => ?_)
          · have hf := ite_t c18 hf
            refine lv_iload_n hx hb dX14_tryOrder_136 rfl (lv_at hl 4 rfl) ?_
            exact hj137 p3 hf _ _ _ hR hS (lv_sub hl [1, 2, 3, 4, 5] rfl)
          · have hf := ite_f c18 hf
            refine lv_iload hx hb dX14_tryOrder_131 (lv_at hl 0 rfl) ?_
            refine lv_goto (tgt := 137) hx hb dX14_tryOrder_133 (by decide) ?_
            exact hj137 rr13 hf _ _ _ hR hS (lv_sub hl [1, 2, 3, 4, 5] rfl)
        · have hf := ite_f c6 hf
          refine lv_goto (tgt := 140) hx hb dX14_tryOrder_81 (by decide) ?_
          exact hj140 w2_i_bestPeriod w2_a_order w2_a_bestRow hf _ _ _ hR hS (lv_sub hl [0, 1, 2, 3, 4] rfl)
    · have hf := ite_t c1 hf
      refine lv_aload_n hx hb dX14_tryOrder_25 rfl (lv_at hl 0 rfl) ?_
      refine lv_iload_n hx hb dX14_tryOrder_26 rfl (lv_at hl 3 rfl) ?_
      refine n_puti (li' := [(1150, o, p3)]) hx hb hts hown hG hR hS gPi_X14_386_11 shM.1 0 rfl rfl rfl dX14_tryOrder_27 (fun H locs hR hS => ?_)
      refine lv_iconst (v := 0) hx hb dX14_tryOrder_30 li_0 ?_
      refine lv_istore (lv' := [(4, .int (0 : Int32)), (0, .ref o), (1, .int p1), (2, .int p2), (3, .int p3)]) hx hb dX14_tryOrder_31 hl (by decide) rfl (fun ls hl => ?_)
      obtain ⟨rl19, hw19, hfo19⟩ := bind_s hf
      have hx19_0 : ∀ (x19_0 : Int32 × (Nat → Int32) × (Nat → Int32)), f14_tryOrder_e19_0 x19_0 = some out → ∀ (pc : Nat) (H : Heap) (locs : List Loc) (ls : Array Slot), decode cX14_tryOrder pc = .ok (.return_, 1) → RS G K (ov I [(1150, o, x19_0.1)]) J X (ova A [((o + 2), a_now), ((o + 21), x19_0.2.1), ((o + 22), a_asked), ((o + 23), x19_0.2.2)]) B Q H → va_S (gA G) s.heap H locs → W p l e ({ frames := (d + 1) + 3, cells := 0, slots := 0, locals := (d + 1) * 25 + 65 } : Room) s m args below meth c H locs 0 0 Z (F0 m pc ls []) := by
        intro x19_0 hf pc H locs ls hd hR hS
        unfold f14_tryOrder_e19_0 at hf
        obtain rfl := some_i hf
        exact hend _ _ _ _ hd hR hS
      refine whl_walk (P := fun (s19 : Int32 × (Nat → Int32)) => ∀ (H : Heap) (locs : List Loc) (ls : Array Slot), RS G K (ov I [(1150, o, p3)]) J X (ova A [((o + 2), a_now), ((o + 21), a_order), ((o + 22), a_asked), ((o + 23), s19.2)]) B Q H → va_S (gA G) s.heap H locs → lv_has ls 6 [(0, .ref o), (1, .int p1), (4, .int s19.1)] → W p l e ({ frames := (d + 1) + 3, cells := 0, slots := 0, locals := (d + 1) * 25 + 65 } : Room) s m args below meth c H locs 0 0 Z (F0 m 33 ls [])) (r := rl19) ?_ FU _ hw19 _ _ _ hR hS (lv_sub hl [1, 2, 0] rfl)
      clear hR hS hl hf
      intro s19 o19 hf hk19 H locs ls hR hS hl
      obtain ⟨w19_4, w19_a_bestRow⟩ := s19
      have hf : f14_tryOrder_s19 p1 p3 a_order w19_4 w19_a_bestRow = some o19 := hf
      have hR : RS G K (ov I [(1150, o, p3)]) J X (ova A [((o + 2), a_now), ((o + 21), a_order), ((o + 22), a_asked), ((o + 23), w19_a_bestRow)]) B Q H := hR
      have hl : lv_has ls 6 [(0, .ref o), (1, .int p1), (4, .int w19_4)] := hl
      unfold f14_tryOrder_s19 at hf
      refine lv_iload hx hb dX14_tryOrder_33 (lv_at hl 2 rfl) ?_
      refine lv_iload_n hx hb dX14_tryOrder_35 rfl (lv_at hl 1 rfl) ?_
      refine lv_icmp_ge (tgt := 59) hx hb dX14_tryOrder_36 (by decide) (fun c20 => ?_) (fun c20 => ?_)
      · have hf := ite_t c20 hf
        obtain rfl := some_i hf
        replace hk19 : _ = rl19 := hk19
        subst hk19
        exact hx19_0 (p3, a_order, w19_a_bestRow) hfo19 _ _ _ _ dX14_tryOrder_59 hR hS
      · have hf := ite_f c20 hf
        refine lv_aload_n hx hb dX14_tryOrder_39 rfl (lv_at hl 0 rfl) ?_
        refine g_getr (b := (o + 23)) hx hb hts hown hG hR gFx_X14_78_11 shM.1 ((shM.2 22 _ rfl).2) dX14_tryOrder_40 ?_
        refine lv_iload hx hb dX14_tryOrder_43 (lv_at hl 2 rfl) ?_
        refine lv_aload_n hx hb dX14_tryOrder_45 rfl (lv_at hl 0 rfl) ?_
        refine g_getr (b := (o + 21)) hx hb hts hown hG hR gFx_X14_72_11 shM.1 ((shM.2 20 _ rfl).2) dX14_tryOrder_46 ?_
        refine lv_iload hx hb dX14_tryOrder_49 (lv_at hl 2 rfl) ?_
        obtain ⟨c21, hf⟩ := gd_some hf
        obtain ⟨v22, ev22, hf⟩ := lt_some hf
        refine n_iald (x := a_order) hx hb hG hR k_a_order c21 (ova_get 1 hN_A rfl) ev22 dX14_tryOrder_51 ?_
        obtain ⟨c23, hf⟩ := gd_some hf
        obtain ⟨u24, eu24, hf⟩ := lt_some hf
        refine n_iast (la' := [((o + 2), a_now), ((o + 21), a_order), ((o + 22), a_asked), ((o + 23), u24)]) hx hb hG hR hS k_a_bestRow c23 hN_A 3 rfl eu24 rfl dX14_tryOrder_52 (fun H locs hR hS => ?_)
        obtain ⟨v25, ev25, hf⟩ := lt_some hf
        refine lv_iinc (k := 2) (v := v25) (lv' := [(4, .int v25), (0, .ref o), (1, .int p1)]) hx hb dX14_tryOrder_53 hl rfl (by rw [ev25]; rfl) (by decide) rfl (fun ls hl => ?_)
        refine lv_goto (tgt := 33) hx hb dX14_tryOrder_56 (by decide) ?_
        obtain rfl := some_i hf
        exact hk19 _ _ _ hR hS (lv_sub hl [1, 2, 0] rfl)
  refine lv_icmp_eq (tgt := 17) hx hb dX14_tryOrder_5 (by decide) (fun c26 => ?_) (fun c26 => ?_)
  · have hf := ite_t c26 hf
    exact hj17 () hf _ _ _ hR hS (lv_sub hl [0, 1, 2, 3] rfl)
  · have hf := ite_f c26 hf
    refine lv_iload_n hx hb dX14_tryOrder_8 rfl (lv_at hl 3 rfl) ?_
    refine lv_aload_n hx hb dX14_tryOrder_9 rfl (lv_at hl 0 rfl) ?_
    refine n_geti (v := i_bestPeriod) hx hb hts hown hG hR gFi_X14_386_11 shM.1 (ov_get 0 rfl rfl) dX14_tryOrder_10 ?_
    refine lv_icmp_lt (tgt := 17) hx hb dX14_tryOrder_13 (by decide) (fun c27 => ?_) (fun c27 => ?_)
    · have hf := ite_t c27 hf
      exact hj17 () hf _ _ _ hR hS (lv_sub hl [0, 1, 2, 3] rfl)
    · have hf := ite_f c27 hf
      obtain rfl := some_i hf
      exact hend _ _ _ _ dX14_tryOrder_16 hR hS
theorem f14_tryOrder_z : f14_tryOrder 0 = fun _ _ _ _ _ _ _ _ _ => none := rfl
theorem f14_tryOrder_s (d : Nat) : f14_tryOrder (d + 1) = fb14_tryOrder (f14_tryOrder d) := rfl
theorem mG_X14_tryOrder (l : Launch) : ∀ d : Nat, (∀ (G : gG) (K : gK) (I : gI) (J : gJ) (X : gX) (A : gI) (B : gJ) (Q : gX) (o : Nat) (shM : Sh K X o 11 rows11) (p1 : Int32) (p2 : Int32) (p3 : Int32) (i_bestPeriod : Int32) (i_askedMany : Int32) (a_now : Nat → Int32) (a_order : Nat → Int32) (a_asked : Nat → Int32) (a_bestRow : Nat → Int32) (e_i_bestPeriod : I 1150 o = i_bestPeriod) (e_i_askedMany : I 1152 o = i_askedMany) (e_a_now : A (o + 2) = a_now) (e_a_order : A (o + 21) = a_order) (e_a_asked : A (o + 22) = a_asked) (e_a_bestRow : A (o + 23) = a_bestRow) (out : Int32 × (Nat → Int32) × (Nat → Int32)) (hf : f14_tryOrder d p1 p2 p3 i_bestPeriod i_askedMany a_now a_order a_asked a_bestRow = some out), GMet l yX14_tryOrder cX14_tryOrder 6 none (d + 3) (d * 25 + 65) G [.ref o, .int p1, .int p2, .int p3] K I J X A B Q none K (ov I [(1150, o, out.1)]) J X (ova A [((o + 2), a_now), ((o + 21), out.2.1), ((o + 22), a_asked), ((o + 23), out.2.2)]) B Q 0 0) := by
  intro d
  induction d with
  | zero =>
    exact (by intro G K I J X A B Q o shM p1 p2 p3 i_bestPeriod i_askedMany a_now a_order a_asked a_bestRow e_i_bestPeriod e_i_askedMany e_a_now e_a_order e_a_asked e_a_bestRow out hf; rw [f14_tryOrder_z] at hf; cases hf)
  | succ d ih =>
    exact (by intro G K I J X A B Q o shM p1 p2 p3 i_bestPeriod i_askedMany a_now a_order a_asked a_bestRow e_i_bestPeriod e_i_askedMany e_a_now e_a_order e_a_asked e_a_bestRow out hf; rw [f14_tryOrder_s] at hf; exact w14_tryOrder l d (f14_tryOrder d) ih G K I J X A B Q o shM p1 p2 p3 i_bestPeriod i_askedMany a_now a_order a_asked a_bestRow e_i_bestPeriod e_i_askedMany e_a_now e_a_order e_a_asked e_a_bestRow out hf)
theorem m14_tryOrder (l : Launch) (d : Nat) : ∀ (G : gG) (K : gK) (I : gI) (J : gJ) (X : gX) (A : gI) (B : gJ) (Q : gX) (o : Nat) (shM : Sh K X o 11 rows11) (p1 : Int32) (p2 : Int32) (p3 : Int32) (i_bestPeriod : Int32) (i_askedMany : Int32) (a_now : Nat → Int32) (a_order : Nat → Int32) (a_asked : Nat → Int32) (a_bestRow : Nat → Int32) (e_i_bestPeriod : I 1150 o = i_bestPeriod) (e_i_askedMany : I 1152 o = i_askedMany) (e_a_now : A (o + 2) = a_now) (e_a_order : A (o + 21) = a_order) (e_a_asked : A (o + 22) = a_asked) (e_a_bestRow : A (o + 23) = a_bestRow) (out : Int32 × (Nat → Int32) × (Nat → Int32)) (hf : f14_tryOrder d p1 p2 p3 i_bestPeriod i_askedMany a_now a_order a_asked a_bestRow = some out), GMet l yX14_tryOrder cX14_tryOrder 6 none (d + 3) (d * 25 + 65) G [.ref o, .int p1, .int p2, .int p3] K I J X A B Q none K (ov I [(1150, o, out.1)]) J X (ova A [((o + 2), a_now), ((o + 21), out.2.1), ((o + 22), a_asked), ((o + 23), out.2.2)]) B Q 0 0 := (mG_X14_tryOrder l d)
noncomputable def f14_best_e5_0 (rr1 : Int32 × Int32 × Int32 × Int32 × (Nat → Int32) × (Nat → Int32)) (x3_0 : (Nat → Int32)) (rr4 : Int32 × (Nat → Int32) × (Nat → Int32)) (x5_0 : (Nat → Int32)) : Option (Int32 × Int32 × Int32 × Int32 × Int32 × Int32 × Int32 × Int32 × (Nat → Int32) × (Nat → Int32) × (Nat → Int32) × (Nat → Int32) × (Nat → Int32) × (Nat → Int32)) :=
  some (rr4.1, (0 : Int32), rr1.2.1, rr1.2.2.1, rr1.2.2.2.1, rr4.1, rr1.2.2.2.1, rr1.2.2.2.1, rr1.2.2.2.2.1, rr1.2.2.2.2.2, rr4.2.1, x3_0, rr4.2.2, x5_0)

noncomputable def f14_best_s5 (rr1 : Int32 × Int32 × Int32 × Int32 × (Nat → Int32) × (Nat → Int32)) (rr4 : Int32 × (Nat → Int32) × (Nat → Int32)) (w5_1 : Int32) (w5_a_bestTold : Nat → Int32) : Option ((Int32 × (Nat → Int32)) ⊕ ((Nat → Int32))) :=
  if rr1.2.2.2.1 ≤ w5_1 then
    some (.inr w5_a_bestTold)
  else
    gd (inb w5_1 7) <|
    lt (rr4.2.2 w5_1.toNatClampNeg) fun v8 =>
    gd (inb w5_1 7) <|
    lt (upd w5_a_bestTold w5_1.toNatClampNeg v8) fun u10 =>
    lt (w5_1 + (1 : Int32)) fun v11 =>
    some (.inl (v11, u10))

noncomputable def f14_best_e3_0 (a_order : Nat → Int32) (a_bestRow : Nat → Int32) (a_bestTold : Nat → Int32) (rr1 : Int32 × Int32 × Int32 × Int32 × (Nat → Int32) × (Nat → Int32)) (x3_0 : (Nat → Int32)) : Option (Int32 × Int32 × Int32 × Int32 × Int32 × Int32 × Int32 × Int32 × (Nat → Int32) × (Nat → Int32) × (Nat → Int32) × (Nat → Int32) × (Nat → Int32) × (Nat → Int32)) :=
  (f14_tryOrder 9 (0 : Int32) (0 : Int32) (0 : Int32) (-1 : Int32) rr1.2.2.2.1 rr1.2.2.2.2.1 a_order x3_0 a_bestRow).bind fun rr4 =>
  (whl (fun (s5 : Int32 × (Nat → Int32)) => f14_best_s5 rr1 rr4 s5.1 s5.2) FU ((0 : Int32), a_bestTold)).bind fun rl5 =>
  f14_best_e5_0 rr1 x3_0 rr4 rl5

noncomputable def f14_best_e13_0 (rr1 : Int32 × Int32 × Int32 × Int32 × (Nat → Int32) × (Nat → Int32)) (w3_1 : Int32) (x13_0 : Int32 × (Nat → Int32)) : Option ((Int32 × (Nat → Int32)) ⊕ ((Nat → Int32))) :=
  gd (inb w3_1 12) <|
  lt (rr1.2.2.2.2.2 w3_1.toNatClampNeg) fun v15 =>
  gd (inb x13_0.1 7) <|
  lt (upd x13_0.2 x13_0.1.toNatClampNeg v15) fun u17 =>
  lt (w3_1 + (1 : Int32)) fun v18 =>
  some (.inl (v18, u17))

noncomputable def f14_best_s13 (rr1 : Int32 × Int32 × Int32 × Int32 × (Nat → Int32) × (Nat → Int32)) (w3_1 : Int32) (w13_2 : Int32) (w13_a_asked : Nat → Int32) : Option ((Int32 × (Nat → Int32)) ⊕ (Int32 × (Nat → Int32))) :=
  if w13_2 ≤ 0 then
    some (.inr (w13_2, w13_a_asked))
  else
    lt (w13_2 - (1 : Int32)) fun v20 =>
    gd (inb v20 7) <|
    lt (w13_a_asked v20.toNatClampNeg) fun v22 =>
    gd (inb w3_1 12) <|
    lt (rr1.2.2.2.2.2 w3_1.toNatClampNeg) fun v24 =>
    if v22 ≤ v24 then
      some (.inr (w13_2, w13_a_asked))
    else
      lt (w13_2 - (1 : Int32)) fun v26 =>
      gd (inb v26 7) <|
      lt (w13_a_asked v26.toNatClampNeg) fun v28 =>
      gd (inb w13_2 7) <|
      lt (upd w13_a_asked w13_2.toNatClampNeg v28) fun u30 =>
      lt (w13_2 + (-1 : Int32)) fun v31 =>
      some (.inl (v31, u30))

noncomputable def f14_best_s3 (rr1 : Int32 × Int32 × Int32 × Int32 × (Nat → Int32) × (Nat → Int32)) (w3_1 : Int32) (w3_a_asked : Nat → Int32) : Option ((Int32 × (Nat → Int32)) ⊕ ((Nat → Int32))) :=
  if rr1.2.2.2.1 ≤ w3_1 then
    some (.inr w3_a_asked)
  else
    (whl (fun (s13 : Int32 × (Nat → Int32)) => f14_best_s13 rr1 w3_1 s13.1 s13.2) FU (w3_1, w3_a_asked)).bind fun rl13 =>
    f14_best_e13_0 rr1 w3_1 rl13

noncomputable def f14_best (i_thrown : Int32) (i_taped : Int32) (i_isBegun : Int32) (i_teamMany : Int32) (i_bestPeriod : Int32) (i_bestMany : Int32) (i_askedMany : Int32) (a_tape : Nat → Int32) (a_now : Nat → Int32) (a_team : Nat → Int32) (a_order : Nat → Int32) (a_asked : Nat → Int32) (a_bestRow : Nat → Int32) (a_bestTold : Nat → Int32) : Option (Int32 × Int32 × Int32 × Int32 × Int32 × Int32 × Int32 × Int32 × (Nat → Int32) × (Nat → Int32) × (Nat → Int32) × (Nat → Int32) × (Nat → Int32) × (Nat → Int32)) :=
  (f14_takesTeam (2 : Int32) (7 : Int32) (1 : Int32) i_taped i_isBegun i_teamMany a_tape a_now a_team).bind fun rr1 =>
  if rr1.1 = 0 then
    some ((-1 : Int32), (0 : Int32), rr1.2.1, rr1.2.2.1, rr1.2.2.2.1, i_bestPeriod, i_bestMany, i_askedMany, rr1.2.2.2.2.1, rr1.2.2.2.2.2, a_order, a_asked, a_bestRow, a_bestTold)
  else
    (whl (fun (s3 : Int32 × (Nat → Int32)) => f14_best_s3 rr1 s3.1 s3.2) FU ((0 : Int32), a_asked)).bind fun rl3 =>
    f14_best_e3_0 a_order a_bestRow a_bestTold rr1 rl3
set_option maxHeartbeats 4000000 in
theorem m14_best (l : Launch) (G : gG) (K : gK) (I : gI) (J : gJ) (X : gX) (A : gI) (B : gJ) (Q : gX) (o : Nat) (shM : Sh K X o 11 rows11)  (i_thrown : Int32) (i_taped : Int32) (i_isBegun : Int32) (i_teamMany : Int32) (i_bestPeriod : Int32) (i_bestMany : Int32) (i_askedMany : Int32) (a_tape : Nat → Int32) (a_now : Nat → Int32) (a_team : Nat → Int32) (a_order : Nat → Int32) (a_asked : Nat → Int32) (a_bestRow : Nat → Int32) (a_bestTold : Nat → Int32) (e_i_thrown : I 1100 o = i_thrown) (e_i_taped : I 1102 o = i_taped) (e_i_isBegun : I 1122 o = i_isBegun) (e_i_teamMany : I 1133 o = i_teamMany) (e_i_bestPeriod : I 1150 o = i_bestPeriod) (e_i_bestMany : I 1151 o = i_bestMany) (e_i_askedMany : I 1152 o = i_askedMany) (e_a_tape : A (o + 1) = a_tape) (e_a_now : A (o + 2) = a_now) (e_a_team : A (o + 10) = a_team) (e_a_order : A (o + 21) = a_order) (e_a_asked : A (o + 22) = a_asked) (e_a_bestRow : A (o + 23) = a_bestRow) (e_a_bestTold : A (o + 24) = a_bestTold) (out : Int32 × Int32 × Int32 × Int32 × Int32 × Int32 × Int32 × Int32 × (Nat → Int32) × (Nat → Int32) × (Nat → Int32) × (Nat → Int32) × (Nat → Int32) × (Nat → Int32)) (hf : f14_best i_thrown i_taped i_isBegun i_teamMany i_bestPeriod i_bestMany i_askedMany a_tape a_now a_team a_order a_asked a_bestRow a_bestTold = some out) : GMet l yX14_best cX14_best 3 (some .int) (13) (315) G [.ref o] K I J X A B Q (some (.int out.1)) K (ov I [(1100, o, out.2.1), (1102, o, out.2.2.1), (1122, o, out.2.2.2.1), (1133, o, out.2.2.2.2.1), (1150, o, out.2.2.2.2.2.1), (1151, o, out.2.2.2.2.2.2.1), (1152, o, out.2.2.2.2.2.2.2.1)]) J X (ova A [((o + 1), a_tape), ((o + 2), out.2.2.2.2.2.2.2.2.1), ((o + 10), out.2.2.2.2.2.2.2.2.2.1), ((o + 21), out.2.2.2.2.2.2.2.2.2.2.1), ((o + 22), out.2.2.2.2.2.2.2.2.2.2.2.1), ((o + 23), out.2.2.2.2.2.2.2.2.2.2.2.2.1), ((o + 24), out.2.2.2.2.2.2.2.2.2.2.2.2.2)]) B Q 0 0 := by
  refine GMet.of (y := yX14_best) rfl (Nat.le_of_ble_eq_true rfl) rfl ?_
  intro p e s m below meth c ls hx hb hr hml hlocks hts hown hname hG hR hl
  have hown : s.vm.findClass RX14 = some m.cls := hown
  have k_a_tape : K (o + 1) = some (.inr (0, 740)) := (shM.2 0 _ rfl).1
  have k_a_now : K (o + 2) = some (.inr (0, 800)) := (shM.2 1 _ rfl).1
  have k_a_team : K (o + 10) = some (.inr (0, 12)) := (shM.2 9 _ rfl).1
  have k_a_order : K (o + 21) = some (.inr (0, 7)) := (shM.2 20 _ rfl).1
  have k_a_asked : K (o + 22) = some (.inr (0, 7)) := (shM.2 21 _ rfl).1
  have k_a_bestRow : K (o + 23) = some (.inr (0, 7)) := (shM.2 22 _ rfl).1
  have k_a_bestTold : K (o + 24) = some (.inr (0, 7)) := (shM.2 23 _ rfl).1
  have hN_A : nda [(o + 1), (o + 2), (o + 10), (o + 21), (o + 22), (o + 23), (o + 24)] := nd_off o [1, 2, 10, 21, 22, 23, 24] rfl
  have hR : RS G K (ov I [(1100, o, i_thrown), (1102, o, i_taped), (1122, o, i_isBegun), (1133, o, i_teamMany), (1150, o, i_bestPeriod), (1151, o, i_bestMany), (1152, o, i_askedMany)]) J X (ova A [((o + 1), a_tape), ((o + 2), a_now), ((o + 10), a_team), ((o + 21), a_order), ((o + 22), a_asked), ((o + 23), a_bestRow), ((o + 24), a_bestTold)]) B Q s.heap := hR.to (Eq.symm (ov_sc e_i_thrown (ov_sc e_i_taped (ov_sc e_i_isBegun (ov_sc e_i_teamMany (ov_sc e_i_bestPeriod (ov_sc e_i_bestMany (ov_sc e_i_askedMany rfl)))))))) rfl rfl (Eq.symm (ova_sc e_a_tape (ova_sc e_a_now (ova_sc e_a_team (ova_sc e_a_order (ova_sc e_a_asked (ova_sc e_a_bestRow (ova_sc e_a_bestTold rfl)))))))) rfl rfl
  have hS : va_S (gA G) s.heap s.heap [] := va_S.rf
  have hend : ∀ (pc : Nat) (H : Heap) (locs : List Loc) (ls : Array Slot), decode cX14_best pc = .ok (.ireturn, 1) → RS G K (ov I [(1100, o, out.2.1), (1102, o, out.2.2.1), (1122, o, out.2.2.2.1), (1133, o, out.2.2.2.2.1), (1150, o, out.2.2.2.2.2.1), (1151, o, out.2.2.2.2.2.2.1), (1152, o, out.2.2.2.2.2.2.2.1)]) J X (ova A [((o + 1), a_tape), ((o + 2), out.2.2.2.2.2.2.2.2.1), ((o + 10), out.2.2.2.2.2.2.2.2.2.1), ((o + 21), out.2.2.2.2.2.2.2.2.2.2.1), ((o + 22), out.2.2.2.2.2.2.2.2.2.2.2.1), ((o + 23), out.2.2.2.2.2.2.2.2.2.2.2.2.1), ((o + 24), out.2.2.2.2.2.2.2.2.2.2.2.2.2)]) B Q H → va_S (gA G) s.heap H locs → W p l e ({ frames := 13, cells := 0, slots := 0, locals := 315 } : Room) s m ([.ref o] : List Value).toArray below meth c H locs 0 0 (MQ below (gQ G (some (.int out.1)) K (ov I [(1100, o, out.2.1), (1102, o, out.2.2.1), (1122, o, out.2.2.2.1), (1133, o, out.2.2.2.2.1), (1150, o, out.2.2.2.2.2.1), (1151, o, out.2.2.2.2.2.2.1), (1152, o, out.2.2.2.2.2.2.2.1)]) J X (ova A [((o + 1), a_tape), ((o + 2), out.2.2.2.2.2.2.2.2.1), ((o + 10), out.2.2.2.2.2.2.2.2.2.1), ((o + 21), out.2.2.2.2.2.2.2.2.2.2.1), ((o + 22), out.2.2.2.2.2.2.2.2.2.2.2.1), ((o + 23), out.2.2.2.2.2.2.2.2.2.2.2.2.1), ((o + 24), out.2.2.2.2.2.2.2.2.2.2.2.2.2)]) B Q) ([.ref o] : List Value).toArray s 0 0 (gA G)) (F0 m pc ls [.int out.1]) := fun pc H locs ls hd hR hS => g_iret hx hb hr hlocks hG hR hS rfl hd
  generalize MQ below (gQ G (some (.int out.1)) K (ov I [(1100, o, out.2.1), (1102, o, out.2.2.1), (1122, o, out.2.2.2.1), (1133, o, out.2.2.2.2.1), (1150, o, out.2.2.2.2.2.1), (1151, o, out.2.2.2.2.2.2.1), (1152, o, out.2.2.2.2.2.2.2.1)]) J X (ova A [((o + 1), a_tape), ((o + 2), out.2.2.2.2.2.2.2.2.1), ((o + 10), out.2.2.2.2.2.2.2.2.2.1), ((o + 21), out.2.2.2.2.2.2.2.2.2.2.1), ((o + 22), out.2.2.2.2.2.2.2.2.2.2.2.1), ((o + 23), out.2.2.2.2.2.2.2.2.2.2.2.2.1), ((o + 24), out.2.2.2.2.2.2.2.2.2.2.2.2.2)]) B Q) ([.ref o] : List Value).toArray s 0 0 (gA G) = Z at hend ⊢
  generalize ([.ref o] : List Value).toArray = args at hts hend ⊢
  unfold f14_best at hf
  refine lv_aload_n hx hb dX14_best_0 rfl (lv_at hl 0 rfl) ?_
  refine lv_iconst (v := 0) hx hb dX14_best_1 li_0 ?_
  refine n_puti (li' := [(1100, o, (0 : Int32)), (1102, o, i_taped), (1122, o, i_isBegun), (1133, o, i_teamMany), (1150, o, i_bestPeriod), (1151, o, i_bestMany), (1152, o, i_askedMany)]) hx hb hts hown hG hR hS gPi_X14_148_11 shM.1 0 rfl rfl rfl dX14_best_2 (fun H locs hR hS => ?_)
  refine lv_aload_n hx hb dX14_best_5 rfl (lv_at hl 0 rfl) ?_
  refine lv_iconst (v := 2) hx hb dX14_best_6 li_2 ?_
  refine lv_bipush (v := 7) hx hb dX14_best_7 lb_7 ?_
  refine lv_iconst (v := 1) hx hb dX14_best_9 li_1 ?_
  obtain ⟨rr1, hrr1, hf⟩ := bind_s hf
  refine g0_cV (rm := (2, 41)) (As := [.int (2 : Int32), .int (7 : Int32), .int (1 : Int32)]) (rest := []) ⟨hx, hb, hml, hown, hts⟩ hG hR hS (m14_takesTeam l G K (ov I [(1100, o, (0 : Int32)), (1102, o, i_taped), (1122, o, i_isBegun), (1133, o, i_teamMany), (1150, o, i_bestPeriod), (1151, o, i_bestMany), (1152, o, i_askedMany)]) J X (ova A [((o + 1), a_tape), ((o + 2), a_now), ((o + 10), a_team), ((o + 21), a_order), ((o + 22), a_asked), ((o + 23), a_bestRow), ((o + 24), a_bestTold)]) B Q o shM (2 : Int32) (7 : Int32) (1 : Int32) i_taped i_isBegun i_teamMany a_tape a_now a_team (ov_get 1 rfl rfl) (ov_get 2 rfl rfl) (ov_get 3 rfl rfl) (ova_get 0 hN_A rfl) (ova_get 1 hN_A rfl) (ova_get 2 hN_A rfl) rr1 hrr1) (cwV 3 hts gi_X14_372 rfl rfl rfl hd_X14_takesTeam ⟨Nat.le_of_ble_eq_true rfl, Nat.le_of_ble_eq_true rfl⟩) shM.1 rfl rfl hl.1 (Nat.le_of_ble_eq_true rfl) dX14_best_10 ⟨Nat.le_refl _, Nat.le_refl _⟩ rfl (fun H locs hR hS => ?_)
  have hR : RS G K (ov I [(1100, o, (0 : Int32)), (1102, o, rr1.2.1), (1122, o, rr1.2.2.1), (1133, o, rr1.2.2.2.1), (1150, o, i_bestPeriod), (1151, o, i_bestMany), (1152, o, i_askedMany)]) J X (ova A [((o + 1), a_tape), ((o + 2), rr1.2.2.2.2.1), ((o + 10), rr1.2.2.2.2.2), ((o + 21), a_order), ((o + 22), a_asked), ((o + 23), a_bestRow), ((o + 24), a_bestTold)]) B Q H := hR.to (ov_merge (l := [(1100, o, (0 : Int32)), (1102, o, i_taped), (1122, o, i_isBegun), (1133, o, i_teamMany), (1150, o, i_bestPeriod), (1151, o, i_bestMany), (1152, o, i_askedMany)]) rfl [1, 2, 3] [(1102, o, rr1.2.1), (1122, o, rr1.2.2.1), (1133, o, rr1.2.2.2.1)] rfl rfl) rfl rfl (ova_merge (l := [((o + 1), a_tape), ((o + 2), a_now), ((o + 10), a_team), ((o + 21), a_order), ((o + 22), a_asked), ((o + 23), a_bestRow), ((o + 24), a_bestTold)]) hN_A [0, 1, 2] [((o + 1), a_tape), ((o + 2), rr1.2.2.2.2.1), ((o + 10), rr1.2.2.2.2.2)] rfl rfl) rfl rfl
  refine lv_if_ne (tgt := 18) hx hb dX14_best_13 (by decide) (fun c2 => ?_) (fun c2 => ?_)
  · have hf := ite_f c2 hf
    refine lv_aload_n hx hb dX14_best_18 rfl (lv_at hl 0 rfl) ?_
    refine lv_aload_n hx hb dX14_best_19 rfl (lv_at hl 0 rfl) ?_
    refine n_geti (v := rr1.2.2.2.1) hx hb hts hown hG hR gFi_X14_304_11 shM.1 (ov_get 3 rfl rfl) dX14_best_20 ?_
    refine n_puti (li' := [(1100, o, (0 : Int32)), (1102, o, rr1.2.1), (1122, o, rr1.2.2.1), (1133, o, rr1.2.2.2.1), (1150, o, i_bestPeriod), (1151, o, i_bestMany), (1152, o, rr1.2.2.2.1)]) hx hb hts hown hG hR hS gPi_X14_389_11 shM.1 6 rfl rfl rfl dX14_best_23 (fun H locs hR hS => ?_)
    refine lv_iconst (v := 0) hx hb dX14_best_26 li_0 ?_
    refine lv_istore_n (lv' := [(1, .int (0 : Int32)), (0, .ref o)]) hx hb dX14_best_27 rfl hl (by decide) rfl (fun ls hl => ?_)
    obtain ⟨rl3, hw3, hfo3⟩ := bind_s hf
    have hx3_0 : ∀ (x3_0 : (Nat → Int32)), f14_best_e3_0 a_order a_bestRow a_bestTold rr1 x3_0 = some out → ∀ (H : Heap) (locs : List Loc) (ls : Array Slot), RS G K (ov I [(1100, o, (0 : Int32)), (1102, o, rr1.2.1), (1122, o, rr1.2.2.1), (1133, o, rr1.2.2.2.1), (1150, o, i_bestPeriod), (1151, o, i_bestMany), (1152, o, rr1.2.2.2.1)]) J X (ova A [((o + 1), a_tape), ((o + 2), rr1.2.2.2.2.1), ((o + 10), rr1.2.2.2.2.2), ((o + 21), a_order), ((o + 22), x3_0), ((o + 23), a_bestRow), ((o + 24), a_bestTold)]) B Q H → va_S (gA G) s.heap H locs → lv_has ls 3 [(0, .ref o)] → W p l e ({ frames := 13, cells := 0, slots := 0, locals := 315 } : Room) s m args below meth c H locs 0 0 Z (F0 m 97 ls []) := by
      intro x3_0 hf H locs ls hR hS hl
      unfold f14_best_e3_0 at hf
      refine lv_aload_n hx hb dX14_best_97 rfl (lv_at hl 0 rfl) ?_
      refine lv_iconst (v := -1) hx hb dX14_best_98 li_m1 ?_
      refine n_puti (li' := [(1100, o, (0 : Int32)), (1102, o, rr1.2.1), (1122, o, rr1.2.2.1), (1133, o, rr1.2.2.2.1), (1150, o, (-1 : Int32)), (1151, o, i_bestMany), (1152, o, rr1.2.2.2.1)]) hx hb hts hown hG hR hS gPi_X14_386_11 shM.1 4 rfl rfl rfl dX14_best_99 (fun H locs hR hS => ?_)
      refine lv_aload_n hx hb dX14_best_102 rfl (lv_at hl 0 rfl) ?_
      refine lv_iconst (v := 0) hx hb dX14_best_103 li_0 ?_
      refine lv_iconst (v := 0) hx hb dX14_best_104 li_0 ?_
      refine lv_iconst (v := 0) hx hb dX14_best_105 li_0 ?_
      obtain ⟨rr4, hrr4, hf⟩ := bind_s hf
      refine g0_cVv (rm := (12, 290)) (As := [.int (0 : Int32), .int (0 : Int32), .int (0 : Int32)]) (rest := []) ⟨hx, hb, hml, hown, hts⟩ hG hR hS (m14_tryOrder l 9 G K (ov I [(1100, o, (0 : Int32)), (1102, o, rr1.2.1), (1122, o, rr1.2.2.1), (1133, o, rr1.2.2.2.1), (1150, o, (-1 : Int32)), (1151, o, i_bestMany), (1152, o, rr1.2.2.2.1)]) J X (ova A [((o + 1), a_tape), ((o + 2), rr1.2.2.2.2.1), ((o + 10), rr1.2.2.2.2.2), ((o + 21), a_order), ((o + 22), x3_0), ((o + 23), a_bestRow), ((o + 24), a_bestTold)]) B Q o shM (0 : Int32) (0 : Int32) (0 : Int32) (-1 : Int32) rr1.2.2.2.1 rr1.2.2.2.2.1 a_order x3_0 a_bestRow (ov_get 4 rfl rfl) (ov_get 6 rfl rfl) (ova_get 1 hN_A rfl) (ova_get 3 hN_A rfl) (ova_get 4 hN_A rfl) (ova_get 5 hN_A rfl) rr4 hrr4) (cwV 3 hts gi_X14_392 rfl rfl rfl hd_X14_tryOrder ⟨Nat.le_of_ble_eq_true rfl, Nat.le_of_ble_eq_true rfl⟩) shM.1 rfl rfl hl.1 (Nat.le_of_ble_eq_true rfl) dX14_best_106 ⟨Nat.le_refl _, Nat.le_refl _⟩ rfl (fun H locs hR hS => ?_)
      have hR : RS G K (ov I [(1100, o, (0 : Int32)), (1102, o, rr1.2.1), (1122, o, rr1.2.2.1), (1133, o, rr1.2.2.2.1), (1150, o, rr4.1), (1151, o, i_bestMany), (1152, o, rr1.2.2.2.1)]) J X (ova A [((o + 1), a_tape), ((o + 2), rr1.2.2.2.2.1), ((o + 10), rr1.2.2.2.2.2), ((o + 21), rr4.2.1), ((o + 22), x3_0), ((o + 23), rr4.2.2), ((o + 24), a_bestTold)]) B Q H := hR.to (ov_merge (l := [(1100, o, (0 : Int32)), (1102, o, rr1.2.1), (1122, o, rr1.2.2.1), (1133, o, rr1.2.2.2.1), (1150, o, (-1 : Int32)), (1151, o, i_bestMany), (1152, o, rr1.2.2.2.1)]) rfl [4] [(1150, o, rr4.1)] rfl rfl) rfl rfl (ova_merge (l := [((o + 1), a_tape), ((o + 2), rr1.2.2.2.2.1), ((o + 10), rr1.2.2.2.2.2), ((o + 21), a_order), ((o + 22), x3_0), ((o + 23), a_bestRow), ((o + 24), a_bestTold)]) hN_A [1, 3, 4, 5] [((o + 2), rr1.2.2.2.2.1), ((o + 21), rr4.2.1), ((o + 22), x3_0), ((o + 23), rr4.2.2)] rfl rfl) rfl rfl
      refine lv_aload_n hx hb dX14_best_109 rfl (lv_at hl 0 rfl) ?_
      refine lv_aload_n hx hb dX14_best_110 rfl (lv_at hl 0 rfl) ?_
      refine n_geti (v := rr1.2.2.2.1) hx hb hts hown hG hR gFi_X14_389_11 shM.1 (ov_get 6 rfl rfl) dX14_best_111 ?_
      refine n_puti (li' := [(1100, o, (0 : Int32)), (1102, o, rr1.2.1), (1122, o, rr1.2.2.1), (1133, o, rr1.2.2.2.1), (1150, o, rr4.1), (1151, o, rr1.2.2.2.1), (1152, o, rr1.2.2.2.1)]) hx hb hts hown hG hR hS gPi_X14_396_11 shM.1 5 rfl rfl rfl dX14_best_114 (fun H locs hR hS => ?_)
      refine lv_iconst (v := 0) hx hb dX14_best_117 li_0 ?_
      refine lv_istore_n (lv' := [(1, .int (0 : Int32)), (0, .ref o)]) hx hb dX14_best_118 rfl hl (by decide) rfl (fun ls hl => ?_)
      obtain ⟨rl5, hw5, hfo5⟩ := bind_s hf
      have hx5_0 : ∀ (x5_0 : (Nat → Int32)), f14_best_e5_0 rr1 x3_0 rr4 x5_0 = some out → ∀ (H : Heap) (locs : List Loc) (ls : Array Slot), RS G K (ov I [(1100, o, (0 : Int32)), (1102, o, rr1.2.1), (1122, o, rr1.2.2.1), (1133, o, rr1.2.2.2.1), (1150, o, rr4.1), (1151, o, rr1.2.2.2.1), (1152, o, rr1.2.2.2.1)]) J X (ova A [((o + 1), a_tape), ((o + 2), rr1.2.2.2.2.1), ((o + 10), rr1.2.2.2.2.2), ((o + 21), rr4.2.1), ((o + 22), x3_0), ((o + 23), rr4.2.2), ((o + 24), x5_0)]) B Q H → va_S (gA G) s.heap H locs → lv_has ls 3 [(0, .ref o)] → W p l e ({ frames := 13, cells := 0, slots := 0, locals := 315 } : Room) s m args below meth c H locs 0 0 Z (F0 m 145 ls []) := by
        intro x5_0 hf H locs ls hR hS hl
        unfold f14_best_e5_0 at hf
        refine lv_aload_n hx hb dX14_best_145 rfl (lv_at hl 0 rfl) ?_
        refine n_geti (v := rr4.1) hx hb hts hown hG hR gFi_X14_386_11 shM.1 (ov_get 4 rfl rfl) dX14_best_146 ?_
        obtain rfl := some_i hf
        exact hend _ _ _ _ dX14_best_149 hR hS
      refine whl_walk (P := fun (s5 : Int32 × (Nat → Int32)) => ∀ (H : Heap) (locs : List Loc) (ls : Array Slot), RS G K (ov I [(1100, o, (0 : Int32)), (1102, o, rr1.2.1), (1122, o, rr1.2.2.1), (1133, o, rr1.2.2.2.1), (1150, o, rr4.1), (1151, o, rr1.2.2.2.1), (1152, o, rr1.2.2.2.1)]) J X (ova A [((o + 1), a_tape), ((o + 2), rr1.2.2.2.2.1), ((o + 10), rr1.2.2.2.2.2), ((o + 21), rr4.2.1), ((o + 22), x3_0), ((o + 23), rr4.2.2), ((o + 24), s5.2)]) B Q H → va_S (gA G) s.heap H locs → lv_has ls 3 [(0, .ref o), (1, .int s5.1)] → W p l e ({ frames := 13, cells := 0, slots := 0, locals := 315 } : Room) s m args below meth c H locs 0 0 Z (F0 m 119 ls [])) (r := rl5) ?_ FU _ hw5 _ _ _ hR hS (lv_sub hl [1, 0] rfl)
      clear hR hS hl hf
      intro s5 o5 hf hk5 H locs ls hR hS hl
      obtain ⟨w5_1, w5_a_bestTold⟩ := s5
      have hf : f14_best_s5 rr1 rr4 w5_1 w5_a_bestTold = some o5 := hf
      have hR : RS G K (ov I [(1100, o, (0 : Int32)), (1102, o, rr1.2.1), (1122, o, rr1.2.2.1), (1133, o, rr1.2.2.2.1), (1150, o, rr4.1), (1151, o, rr1.2.2.2.1), (1152, o, rr1.2.2.2.1)]) J X (ova A [((o + 1), a_tape), ((o + 2), rr1.2.2.2.2.1), ((o + 10), rr1.2.2.2.2.2), ((o + 21), rr4.2.1), ((o + 22), x3_0), ((o + 23), rr4.2.2), ((o + 24), w5_a_bestTold)]) B Q H := hR
      have hl : lv_has ls 3 [(0, .ref o), (1, .int w5_1)] := hl
      unfold f14_best_s5 at hf
      refine lv_iload_n hx hb dX14_best_119 rfl (lv_at hl 1 rfl) ?_
      refine lv_aload_n hx hb dX14_best_120 rfl (lv_at hl 0 rfl) ?_
      refine n_geti (v := rr1.2.2.2.1) hx hb hts hown hG hR gFi_X14_396_11 shM.1 (ov_get 5 rfl rfl) dX14_best_121 ?_
      refine lv_icmp_ge (tgt := 145) hx hb dX14_best_124 (by decide) (fun c6 => ?_) (fun c6 => ?_)
      · have hf := ite_t c6 hf
        obtain rfl := some_i hf
        replace hk5 : _ = rl5 := hk5
        subst hk5
        exact hx5_0 w5_a_bestTold hfo5 _ _ _ hR hS (lv_sub hl [0] rfl)
      · have hf := ite_f c6 hf
        refine lv_aload_n hx hb dX14_best_127 rfl (lv_at hl 0 rfl) ?_
        refine g_getr (b := (o + 24)) hx hb hts hown hG hR gFx_X14_81_11 shM.1 ((shM.2 23 _ rfl).2) dX14_best_128 ?_
        refine lv_iload_n hx hb dX14_best_131 rfl (lv_at hl 1 rfl) ?_
        refine lv_aload_n hx hb dX14_best_132 rfl (lv_at hl 0 rfl) ?_
        refine g_getr (b := (o + 23)) hx hb hts hown hG hR gFx_X14_78_11 shM.1 ((shM.2 22 _ rfl).2) dX14_best_133 ?_
        refine lv_iload_n hx hb dX14_best_136 rfl (lv_at hl 1 rfl) ?_
        obtain ⟨c7, hf⟩ := gd_some hf
        obtain ⟨v8, ev8, hf⟩ := lt_some hf
        refine n_iald (x := rr4.2.2) hx hb hG hR k_a_bestRow c7 (ova_get 5 hN_A rfl) ev8 dX14_best_137 ?_
        obtain ⟨c9, hf⟩ := gd_some hf
        obtain ⟨u10, eu10, hf⟩ := lt_some hf
        refine n_iast (la' := [((o + 1), a_tape), ((o + 2), rr1.2.2.2.2.1), ((o + 10), rr1.2.2.2.2.2), ((o + 21), rr4.2.1), ((o + 22), x3_0), ((o + 23), rr4.2.2), ((o + 24), u10)]) hx hb hG hR hS k_a_bestTold c9 hN_A 6 rfl eu10 rfl dX14_best_138 (fun H locs hR hS => ?_)
        obtain ⟨v11, ev11, hf⟩ := lt_some hf
        refine lv_iinc (k := 1) (v := v11) (lv' := [(1, .int v11), (0, .ref o)]) hx hb dX14_best_139 hl rfl (by rw [ev11]; rfl) (by decide) rfl (fun ls hl => ?_)
        refine lv_goto (tgt := 119) hx hb dX14_best_142 (by decide) ?_
        obtain rfl := some_i hf
        exact hk5 _ _ _ hR hS (lv_sub hl [1, 0] rfl)
    refine whl_walk (P := fun (s3 : Int32 × (Nat → Int32)) => ∀ (H : Heap) (locs : List Loc) (ls : Array Slot), RS G K (ov I [(1100, o, (0 : Int32)), (1102, o, rr1.2.1), (1122, o, rr1.2.2.1), (1133, o, rr1.2.2.2.1), (1150, o, i_bestPeriod), (1151, o, i_bestMany), (1152, o, rr1.2.2.2.1)]) J X (ova A [((o + 1), a_tape), ((o + 2), rr1.2.2.2.2.1), ((o + 10), rr1.2.2.2.2.2), ((o + 21), a_order), ((o + 22), s3.2), ((o + 23), a_bestRow), ((o + 24), a_bestTold)]) B Q H → va_S (gA G) s.heap H locs → lv_has ls 3 [(0, .ref o), (1, .int s3.1)] → W p l e ({ frames := 13, cells := 0, slots := 0, locals := 315 } : Room) s m args below meth c H locs 0 0 Z (F0 m 28 ls [])) (r := rl3) ?_ FU _ hw3 _ _ _ hR hS (lv_sub hl [1, 0] rfl)
    clear hR hS hl hf
    intro s3 o3 hf hk3 H locs ls hR hS hl
    obtain ⟨w3_1, w3_a_asked⟩ := s3
    have hf : f14_best_s3 rr1 w3_1 w3_a_asked = some o3 := hf
    have hR : RS G K (ov I [(1100, o, (0 : Int32)), (1102, o, rr1.2.1), (1122, o, rr1.2.2.1), (1133, o, rr1.2.2.2.1), (1150, o, i_bestPeriod), (1151, o, i_bestMany), (1152, o, rr1.2.2.2.1)]) J X (ova A [((o + 1), a_tape), ((o + 2), rr1.2.2.2.2.1), ((o + 10), rr1.2.2.2.2.2), ((o + 21), a_order), ((o + 22), w3_a_asked), ((o + 23), a_bestRow), ((o + 24), a_bestTold)]) B Q H := hR
    have hl : lv_has ls 3 [(0, .ref o), (1, .int w3_1)] := hl
    unfold f14_best_s3 at hf
    refine lv_iload_n hx hb dX14_best_28 rfl (lv_at hl 1 rfl) ?_
    refine lv_aload_n hx hb dX14_best_29 rfl (lv_at hl 0 rfl) ?_
    refine n_geti (v := rr1.2.2.2.1) hx hb hts hown hG hR gFi_X14_389_11 shM.1 (ov_get 6 rfl rfl) dX14_best_30 ?_
    refine lv_icmp_ge (tgt := 97) hx hb dX14_best_33 (by decide) (fun c12 => ?_) (fun c12 => ?_)
    · have hf := ite_t c12 hf
      obtain rfl := some_i hf
      replace hk3 : _ = rl3 := hk3
      subst hk3
      exact hx3_0 w3_a_asked hfo3 _ _ _ hR hS (lv_sub hl [0] rfl)
    · have hf := ite_f c12 hf
      refine lv_iload_n hx hb dX14_best_36 rfl (lv_at hl 1 rfl) ?_
      refine lv_istore_n (lv' := [(2, .int w3_1), (0, .ref o), (1, .int w3_1)]) hx hb dX14_best_37 rfl hl (by decide) rfl (fun ls hl => ?_)
      obtain ⟨rl13, hw13, hfo13⟩ := bind_s hf
      have hx13_0 : ∀ (x13_0 : Int32 × (Nat → Int32)), f14_best_e13_0 rr1 w3_1 x13_0 = some o3 → ∀ (H : Heap) (locs : List Loc) (ls : Array Slot), RS G K (ov I [(1100, o, (0 : Int32)), (1102, o, rr1.2.1), (1122, o, rr1.2.2.1), (1133, o, rr1.2.2.2.1), (1150, o, i_bestPeriod), (1151, o, i_bestMany), (1152, o, rr1.2.2.2.1)]) J X (ova A [((o + 1), a_tape), ((o + 2), rr1.2.2.2.2.1), ((o + 10), rr1.2.2.2.2.2), ((o + 21), a_order), ((o + 22), x13_0.2), ((o + 23), a_bestRow), ((o + 24), a_bestTold)]) B Q H → va_S (gA G) s.heap H locs → lv_has ls 3 [(0, .ref o), (1, .int w3_1), (2, .int x13_0.1)] → W p l e ({ frames := 13, cells := 0, slots := 0, locals := 315 } : Room) s m args below meth c H locs 0 0 Z (F0 m 79 ls []) := by
        intro x13_0 hf H locs ls hR hS hl
        unfold f14_best_e13_0 at hf
        refine lv_aload_n hx hb dX14_best_79 rfl (lv_at hl 0 rfl) ?_
        refine g_getr (b := (o + 22)) hx hb hts hown hG hR gFx_X14_75_11 shM.1 ((shM.2 21 _ rfl).2) dX14_best_80 ?_
        refine lv_iload_n hx hb dX14_best_83 rfl (lv_at hl 2 rfl) ?_
        refine lv_aload_n hx hb dX14_best_84 rfl (lv_at hl 0 rfl) ?_
        refine g_getr (b := (o + 10)) hx hb hts hown hG hR gFx_X14_39_11 shM.1 ((shM.2 9 _ rfl).2) dX14_best_85 ?_
        refine lv_iload_n hx hb dX14_best_88 rfl (lv_at hl 1 rfl) ?_
        obtain ⟨c14, hf⟩ := gd_some hf
        obtain ⟨v15, ev15, hf⟩ := lt_some hf
        refine n_iald (x := rr1.2.2.2.2.2) hx hb hG hR k_a_team c14 (ova_get 2 hN_A rfl) ev15 dX14_best_89 ?_
        obtain ⟨c16, hf⟩ := gd_some hf
        obtain ⟨u17, eu17, hf⟩ := lt_some hf
        refine n_iast (la' := [((o + 1), a_tape), ((o + 2), rr1.2.2.2.2.1), ((o + 10), rr1.2.2.2.2.2), ((o + 21), a_order), ((o + 22), u17), ((o + 23), a_bestRow), ((o + 24), a_bestTold)]) hx hb hG hR hS k_a_asked c16 hN_A 4 rfl eu17 rfl dX14_best_90 (fun H locs hR hS => ?_)
        obtain ⟨v18, ev18, hf⟩ := lt_some hf
        refine lv_iinc (k := 1) (v := v18) (lv' := [(1, .int v18), (0, .ref o), (2, .int x13_0.1)]) hx hb dX14_best_91 hl rfl (by rw [ev18]; rfl) (by decide) rfl (fun ls hl => ?_)
        refine lv_goto (tgt := 28) hx hb dX14_best_94 (by decide) ?_
        obtain rfl := some_i hf
        exact hk3 _ _ _ hR hS (lv_sub hl [1, 0] rfl)
      refine whl_walk (P := fun (s13 : Int32 × (Nat → Int32)) => ∀ (H : Heap) (locs : List Loc) (ls : Array Slot), RS G K (ov I [(1100, o, (0 : Int32)), (1102, o, rr1.2.1), (1122, o, rr1.2.2.1), (1133, o, rr1.2.2.2.1), (1150, o, i_bestPeriod), (1151, o, i_bestMany), (1152, o, rr1.2.2.2.1)]) J X (ova A [((o + 1), a_tape), ((o + 2), rr1.2.2.2.2.1), ((o + 10), rr1.2.2.2.2.2), ((o + 21), a_order), ((o + 22), s13.2), ((o + 23), a_bestRow), ((o + 24), a_bestTold)]) B Q H → va_S (gA G) s.heap H locs → lv_has ls 3 [(0, .ref o), (1, .int w3_1), (2, .int s13.1)] → W p l e ({ frames := 13, cells := 0, slots := 0, locals := 315 } : Room) s m args below meth c H locs 0 0 Z (F0 m 38 ls [])) (r := rl13) ?_ FU _ hw13 _ _ _ hR hS (lv_sub hl [1, 2, 0] rfl)
      clear hR hS hl hf
      intro s13 o13 hf hk13 H locs ls hR hS hl
      obtain ⟨w13_2, w13_a_asked⟩ := s13
      have hf : f14_best_s13 rr1 w3_1 w13_2 w13_a_asked = some o13 := hf
      have hR : RS G K (ov I [(1100, o, (0 : Int32)), (1102, o, rr1.2.1), (1122, o, rr1.2.2.1), (1133, o, rr1.2.2.2.1), (1150, o, i_bestPeriod), (1151, o, i_bestMany), (1152, o, rr1.2.2.2.1)]) J X (ova A [((o + 1), a_tape), ((o + 2), rr1.2.2.2.2.1), ((o + 10), rr1.2.2.2.2.2), ((o + 21), a_order), ((o + 22), w13_a_asked), ((o + 23), a_bestRow), ((o + 24), a_bestTold)]) B Q H := hR
      have hl : lv_has ls 3 [(0, .ref o), (1, .int w3_1), (2, .int w13_2)] := hl
      unfold f14_best_s13 at hf
      refine lv_iload_n hx hb dX14_best_38 rfl (lv_at hl 2 rfl) ?_
      refine lv_if_le (tgt := 79) hx hb dX14_best_39 (by decide) (fun c19 => ?_) (fun c19 => ?_)
      · have hf := ite_t c19 hf
        obtain rfl := some_i hf
        replace hk13 : _ = rl13 := hk13
        subst hk13
        exact hx13_0 (w13_2, w13_a_asked) hfo13 _ _ _ hR hS (lv_sub hl [0, 1, 2] rfl)
      · have hf := ite_f c19 hf
        refine lv_aload_n hx hb dX14_best_42 rfl (lv_at hl 0 rfl) ?_
        refine g_getr (b := (o + 22)) hx hb hts hown hG hR gFx_X14_75_11 shM.1 ((shM.2 21 _ rfl).2) dX14_best_43 ?_
        refine lv_iload_n hx hb dX14_best_46 rfl (lv_at hl 2 rfl) ?_
        refine lv_iconst (v := 1) hx hb dX14_best_47 li_1 ?_
        obtain ⟨v20, ev20, hf⟩ := lt_some hf
        refine n_isub hx hb ev20 dX14_best_48 ?_
        obtain ⟨c21, hf⟩ := gd_some hf
        obtain ⟨v22, ev22, hf⟩ := lt_some hf
        refine n_iald (x := w13_a_asked) hx hb hG hR k_a_asked c21 (ova_get 4 hN_A rfl) ev22 dX14_best_49 ?_
        refine lv_aload_n hx hb dX14_best_50 rfl (lv_at hl 0 rfl) ?_
        refine g_getr (b := (o + 10)) hx hb hts hown hG hR gFx_X14_39_11 shM.1 ((shM.2 9 _ rfl).2) dX14_best_51 ?_
        refine lv_iload_n hx hb dX14_best_54 rfl (lv_at hl 1 rfl) ?_
        obtain ⟨c23, hf⟩ := gd_some hf
        obtain ⟨v24, ev24, hf⟩ := lt_some hf
        refine n_iald (x := rr1.2.2.2.2.2) hx hb hG hR k_a_team c23 (ova_get 2 hN_A rfl) ev24 dX14_best_55 ?_
        refine lv_icmp_le (tgt := 79) hx hb dX14_best_56 (by decide) (fun c25 => ?_) (fun c25 => ?_)
        · have hf := ite_t c25 hf
          obtain rfl := some_i hf
          replace hk13 : _ = rl13 := hk13
          subst hk13
          exact hx13_0 (w13_2, w13_a_asked) hfo13 _ _ _ hR hS (lv_sub hl [0, 1, 2] rfl)
        · have hf := ite_f c25 hf
          refine lv_aload_n hx hb dX14_best_59 rfl (lv_at hl 0 rfl) ?_
          refine g_getr (b := (o + 22)) hx hb hts hown hG hR gFx_X14_75_11 shM.1 ((shM.2 21 _ rfl).2) dX14_best_60 ?_
          refine lv_iload_n hx hb dX14_best_63 rfl (lv_at hl 2 rfl) ?_
          refine lv_aload_n hx hb dX14_best_64 rfl (lv_at hl 0 rfl) ?_
          refine g_getr (b := (o + 22)) hx hb hts hown hG hR gFx_X14_75_11 shM.1 ((shM.2 21 _ rfl).2) dX14_best_65 ?_
          refine lv_iload_n hx hb dX14_best_68 rfl (lv_at hl 2 rfl) ?_
          refine lv_iconst (v := 1) hx hb dX14_best_69 li_1 ?_
          obtain ⟨v26, ev26, hf⟩ := lt_some hf
          refine n_isub hx hb ev26 dX14_best_70 ?_
          obtain ⟨c27, hf⟩ := gd_some hf
          obtain ⟨v28, ev28, hf⟩ := lt_some hf
          refine n_iald (x := w13_a_asked) hx hb hG hR k_a_asked c27 (ova_get 4 hN_A rfl) ev28 dX14_best_71 ?_
          obtain ⟨c29, hf⟩ := gd_some hf
          obtain ⟨u30, eu30, hf⟩ := lt_some hf
          refine n_iast (la' := [((o + 1), a_tape), ((o + 2), rr1.2.2.2.2.1), ((o + 10), rr1.2.2.2.2.2), ((o + 21), a_order), ((o + 22), u30), ((o + 23), a_bestRow), ((o + 24), a_bestTold)]) hx hb hG hR hS k_a_asked c29 hN_A 4 rfl eu30 rfl dX14_best_72 (fun H locs hR hS => ?_)
          obtain ⟨v31, ev31, hf⟩ := lt_some hf
          refine lv_iinc (k := 2) (v := v31) (lv' := [(2, .int v31), (0, .ref o), (1, .int w3_1)]) hx hb dX14_best_73 hl rfl (by rw [ev31]; rfl) (by decide) rfl (fun ls hl => ?_)
          refine lv_goto (tgt := 38) hx hb dX14_best_76 (by decide) ?_
          obtain rfl := some_i hf
          exact hk13 _ _ _ hR hS (lv_sub hl [1, 2, 0] rfl)
  · have hf := ite_t c2 hf
    refine lv_iconst (v := -1) hx hb dX14_best_16 li_m1 ?_
    obtain rfl := some_i hf
    exact hend _ _ _ _ dX14_best_17 hR hS
