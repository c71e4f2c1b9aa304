/-! the walks of PailRowModel (printed by tools) 4 -/
set_option maxRecDepth 100000
noncomputable def f14_readTold_j240 (i_size : Int32) (i_limit : Int32) (i_planMany : Int32) (a_tape : Nat → Int32) (rr6 : Int32 × Int32 × Int32 × Int32 × Int32 × Int32 × Int32 × Int32 × Int32 × Int64) (j240_i_to : Int32) (j240_i_from : Int32) (j240_i_kind : Int32) (j240_i_number : Int32) (j240_i_sign : Int32) (j240_i_fault : Int32) (j240_i_at : Int32) (j240_j_word : Int64) (j240_a_plan : Nat → Int32) : Option (Int32 × Int32 × Int32 × Int32 × Int32 × Int32 × Int32 × Int32 × Int32 × Int32 × Int64 × (Nat → Int32)) :=
  lt (i_planMany + (1 : Int32)) fun v17 =>
  (f14_readEnd i_size i_limit j240_i_to j240_i_from j240_i_kind j240_i_number j240_i_sign j240_i_fault j240_i_at j240_j_word a_tape).bind fun rr18 =>
  gd (rr18.1 &&& 1 = rr18.1) <|
  some (rr18.1, rr18.2.1, rr18.2.2.1, rr18.2.2.2.1, rr18.2.2.2.2.1, rr18.2.2.2.2.2.1, rr18.2.2.2.2.2.2.1, rr18.2.2.2.2.2.2.2.1, rr6.2.2.2.2.2.2.2.2.1, v17, rr18.2.2.2.2.2.2.2.2, j240_a_plan)

noncomputable def f14_readTold_j159 (i_size : Int32) (i_limit : Int32) (i_planMany : Int32) (a_tape : Nat → Int32) (a_now : Nat → Int32) (b_name : Nat → Int64) (v4 : Int32) (rr6 : Int32 × Int32 × Int32 × Int32 × Int32 × Int32 × Int32 × Int32 × Int32 × Int64) (j146_i_to : Int32) (j146_i_from : Int32) (j146_i_kind : Int32) (j146_i_number : Int32) (j146_i_sign : Int32) (j146_i_fault : Int32) (j146_i_at : Int32) (j146_j_word : Int64) (j146_a_plan : Nat → Int32) (j159_s0 : Int32) : Option (Int32 × Int32 × Int32 × Int32 × Int32 × Int32 × Int32 × Int32 × Int32 × Int32 × Int64 × (Nat → Int32)) :=
  (f14_readMen v4 j159_s0 i_size i_limit j146_i_to j146_i_from j146_i_kind j146_i_number j146_i_sign j146_i_fault j146_i_at j146_j_word a_tape a_now j146_a_plan b_name).bind fun rr19 =>
  if rr19.1 = 0 then
    some ((0 : Int32), rr19.2.1, rr19.2.2.1, rr19.2.2.2.1, rr19.2.2.2.2.1, rr19.2.2.2.2.2.1, rr19.2.2.2.2.2.2.1, rr19.2.2.2.2.2.2.2.1, rr6.2.2.2.2.2.2.2.2.1, i_planMany, rr19.2.2.2.2.2.2.2.2.1, rr19.2.2.2.2.2.2.2.2.2)
  else
    f14_readTold_j240 i_size i_limit i_planMany a_tape rr6 rr19.2.1 rr19.2.2.1 rr19.2.2.2.1 rr19.2.2.2.2.1 rr19.2.2.2.2.2.1 rr19.2.2.2.2.2.2.1 rr19.2.2.2.2.2.2.2.1 rr19.2.2.2.2.2.2.2.2.1 rr19.2.2.2.2.2.2.2.2.2

noncomputable def f14_readTold_j146 (i_size : Int32) (i_limit : Int32) (i_planMany : Int32) (a_tape : Nat → Int32) (a_now : Nat → Int32) (b_name : Nat → Int64) (v4 : Int32) (rr6 : Int32 × Int32 × Int32 × Int32 × Int32 × Int32 × Int32 × Int32 × Int32 × Int64) (x10_0 : Int32) (j146_i_to : Int32) (j146_i_from : Int32) (j146_i_kind : Int32) (j146_i_number : Int32) (j146_i_sign : Int32) (j146_i_fault : Int32) (j146_i_at : Int32) (j146_j_word : Int64) (j146_a_plan : Nat → Int32) : Option (Int32 × Int32 × Int32 × Int32 × Int32 × Int32 × Int32 × Int32 × Int32 × Int32 × Int64 × (Nat → Int32)) :=
  if x10_0 = (15 : Int32) then
    f14_readTold_j159 i_size i_limit i_planMany a_tape a_now b_name v4 rr6 j146_i_to j146_i_from j146_i_kind j146_i_number j146_i_sign j146_i_fault j146_i_at j146_j_word j146_a_plan (2 : Int32)
  else
    f14_readTold_j159 i_size i_limit i_planMany a_tape a_now b_name v4 rr6 j146_i_to j146_i_from j146_i_kind j146_i_number j146_i_sign j146_i_fault j146_i_at j146_j_word j146_a_plan (1 : Int32)

noncomputable def f14_readTold_j224 (i_size : Int32) (i_limit : Int32) (i_planMany : Int32) (a_tape : Nat → Int32) (v4 : Int32) (rr6 : Int32 × Int32 × Int32 × Int32 × Int32 × Int32 × Int32 × Int32 × Int32 × Int64) (u15 : Nat → Int32) (rr16 : Int32 × Int32 × Int32 × Int32 × Int32 × Int64) (j224_i_fault : Int32) (j224_i_at : Int32) : Option (Int32 × Int32 × Int32 × Int32 × Int32 × Int32 × Int32 × Int32 × Int32 × Int32 × Int64 × (Nat → Int32)) :=
  lt (v4 + (2 : Int32)) fun v26 =>
  gd (inb v26 320) <|
  lt (upd u15 v26.toNatClampNeg rr16.2.2.2.1) fun u28 =>
  (f14_go i_size i_limit rr16.1 rr16.2.1 rr16.2.2.1 rr16.2.2.2.1 rr16.2.2.2.2.1 rr16.2.2.2.2.2 a_tape).bind fun rr29 =>
  f14_readTold_j240 i_size i_limit i_planMany a_tape rr6 rr29.1 rr29.2.1 rr29.2.2.1 rr29.2.2.2.1 rr29.2.2.2.2.1 j224_i_fault j224_i_at rr29.2.2.2.2.2 u28

noncomputable def f14_readTold_j218 (i_planMany : Int32) (rr6 : Int32 × Int32 × Int32 × Int32 × Int32 × Int32 × Int32 × Int32 × Int32 × Int64) (u15 : Nat → Int32) (rr16 : Int32 × Int32 × Int32 × Int32 × Int32 × Int64) : Option (Int32 × Int32 × Int32 × Int32 × Int32 × Int32 × Int32 × Int32 × Int32 × Int32 × Int64 × (Nat → Int32)) :=
  (f14_bad (2 : Int32) rr16.2.1 rr16.2.2.1 rr6.2.2.2.2.2.2.1 rr6.2.2.2.2.2.2.2.1).bind fun rr30 =>
  gd (rr30.1 &&& 1 = rr30.1) <|
  some (rr30.1, rr16.1, rr16.2.1, rr16.2.2.1, rr16.2.2.2.1, rr16.2.2.2.2.1, rr30.2.1, rr30.2.2, rr6.2.2.2.2.2.2.2.2.1, i_planMany, rr16.2.2.2.2.2, u15)

noncomputable def f14_readTold_e10_0 (i_size : Int32) (i_limit : Int32) (i_planMany : Int32) (a_tape : Nat → Int32) (a_now : Nat → Int32) (b_name : Nat → Int64) (v4 : Int32) (rr6 : Int32 × Int32 × Int32 × Int32 × Int32 × Int32 × Int32 × Int32 × Int32 × Int64) (u9 : Nat → Int32) (x10_0 : Int32) : Option (Int32 × Int32 × Int32 × Int32 × Int32 × Int32 × Int32 × Int32 × Int32 × Int32 × Int64 × (Nat → Int32)) :=
  if x10_0 ≤ (19 : Int32) then
    lt (v4 + (1 : Int32)) fun v12 =>
    lt (x10_0 - (15 : Int32)) fun v13 =>
    gd (inb v12 320) <|
    lt (upd u9 v12.toNatClampNeg v13) fun u15 =>
    (f14_go i_size i_limit rr6.2.1 rr6.2.2.1 rr6.2.2.2.1 rr6.2.2.2.2.1 rr6.2.2.2.2.2.1 rr6.2.2.2.2.2.2.2.2.2 a_tape).bind fun rr16 =>
    if x10_0 = (15 : Int32) then
      f14_readTold_j146 i_size i_limit i_planMany a_tape a_now b_name v4 rr6 x10_0 rr16.1 rr16.2.1 rr16.2.2.1 rr16.2.2.2.1 rr16.2.2.2.2.1 rr6.2.2.2.2.2.2.1 rr6.2.2.2.2.2.2.2.1 rr16.2.2.2.2.2 u15
    else
      if x10_0 = (16 : Int32) then
        f14_readTold_j146 i_size i_limit i_planMany a_tape a_now b_name v4 rr6 x10_0 rr16.1 rr16.2.1 rr16.2.2.1 rr16.2.2.2.1 rr16.2.2.2.2.1 rr6.2.2.2.2.2.2.1 rr6.2.2.2.2.2.2.2.1 rr16.2.2.2.2.2 u15
      else
        if x10_0 = (17 : Int32) then
          f14_readTold_j240 i_size i_limit i_planMany a_tape rr6 rr16.1 rr16.2.1 rr16.2.2.1 rr16.2.2.2.1 rr16.2.2.2.2.1 rr6.2.2.2.2.2.2.1 rr6.2.2.2.2.2.2.2.1 rr16.2.2.2.2.2 u15
        else
          if rr16.2.2.1 = (3 : Int32) then
            if x10_0 = (18 : Int32) then
              (f14_isAim rr16.2.2.2.1 a_now).bind fun rr34 =>
              if rr34 = 0 then
                f14_readTold_j218 i_planMany rr6 u15 rr16
              else
                f14_readTold_j224 i_size i_limit i_planMany a_tape v4 rr6 u15 rr16 rr6.2.2.2.2.2.2.1 rr6.2.2.2.2.2.2.2.1
            else
              (f14_columns a_now).bind fun rr32 =>
              if rr16.2.2.2.1 < rr32 then
                f14_readTold_j224 i_size i_limit i_planMany a_tape v4 rr6 u15 rr16 rr6.2.2.2.2.2.2.1 rr6.2.2.2.2.2.2.2.1
              else
                f14_readTold_j218 i_planMany rr6 u15 rr16
          else
            (f14_bad (1 : Int32) rr16.2.1 rr16.2.2.1 rr6.2.2.2.2.2.2.1 rr6.2.2.2.2.2.2.2.1).bind fun rr36 =>
            gd (rr36.1 &&& 1 = rr36.1) <|
            some (rr36.1, rr16.1, rr16.2.1, rr16.2.2.1, rr16.2.2.2.1, rr16.2.2.2.2.1, rr36.2.1, rr36.2.2, rr6.2.2.2.2.2.2.2.2.1, i_planMany, rr16.2.2.2.2.2, u15)
  else
    (f14_bad (1 : Int32) rr6.2.2.1 rr6.2.2.2.1 rr6.2.2.2.2.2.2.1 rr6.2.2.2.2.2.2.2.1).bind fun rr37 =>
    gd (rr37.1 &&& 1 = rr37.1) <|
    some (rr37.1, rr6.2.1, rr6.2.2.1, rr6.2.2.2.1, rr6.2.2.2.2.1, rr6.2.2.2.2.2.1, rr37.2.1, rr37.2.2, rr6.2.2.2.2.2.2.2.2.1, i_planMany, rr6.2.2.2.2.2.2.2.2.2, u9)

noncomputable def f14_readTold_s10 (rr6 : Int32 × Int32 × Int32 × Int32 × Int32 × Int32 × Int32 × Int32 × Int32 × Int64) (w10_2 : Int32) : Option ((Int32) ⊕ (Int32)) :=
  if (19 : Int32) < w10_2 then
    some (.inr w10_2)
  else
    (f14_isWord w10_2 rr6.2.2.2.1 rr6.2.2.2.2.2.2.2.2.2).bind fun rr39 =>
    if rr39 = 0 then
      lt (w10_2 + (1 : Int32)) fun v41 =>
      some (.inl v41)
    else
      some (.inr w10_2)

noncomputable def f14_readTold_j63 (i_size : Int32) (i_limit : Int32) (i_fault : Int32) (i_at : Int32) (i_told : Int32) (i_planMany : Int32) (a_tape : Nat → Int32) (a_now : Nat → Int32) (a_plan : Nat → Int32) (b_name : Nat → Int64) (v4 : Int32) (rr5 : Int32 × Int32 × Int32 × Int32 × Int32 × Int64) (j63_s0 : Int32) : Option (Int32 × Int32 × Int32 × Int32 × Int32 × Int32 × Int32 × Int32 × Int32 × Int32 × Int64 × (Nat → Int32)) :=
  (f14_readNumber j63_s0 (59 : Int32) i_size i_limit rr5.1 rr5.2.1 rr5.2.2.1 rr5.2.2.2.1 rr5.2.2.2.2.1 i_fault i_at i_told rr5.2.2.2.2.2 a_tape).bind fun rr6 =>
  if rr6.1 = 0 then
    some ((0 : Int32), rr6.2.1, rr6.2.2.1, rr6.2.2.2.1, rr6.2.2.2.2.1, rr6.2.2.2.2.2.1, rr6.2.2.2.2.2.2.1, rr6.2.2.2.2.2.2.2.1, rr6.2.2.2.2.2.2.2.2.1, i_planMany, rr6.2.2.2.2.2.2.2.2.2, a_plan)
  else
    gd (inb v4 320) <|
    lt (upd a_plan v4.toNatClampNeg rr6.2.2.2.2.2.2.2.2.1) fun u9 =>
    (whl (fun (s10 : Int32) => f14_readTold_s10 rr6 s10) FU (15 : Int32)).bind fun rl10 =>
    f14_readTold_e10_0 i_size i_limit i_planMany a_tape a_now b_name v4 rr6 u9 rl10

noncomputable def f14_readTold (i_size : Int32) (i_limit : Int32) (i_to : Int32) (i_from : Int32) (i_kind : Int32) (i_number : Int32) (i_sign : Int32) (i_fault : Int32) (i_at : Int32) (i_told : Int32) (i_planMany : Int32) (j_word : Int64) (a_tape : Nat → Int32) (a_now : Nat → Int32) (a_plan : Nat → Int32) (b_name : Nat → Int64) : Option (Int32 × Int32 × Int32 × Int32 × Int32 × Int32 × Int32 × Int32 × Int32 × Int32 × Int64 × (Nat → Int32)) :=
  (f14_isWord (14 : Int32) i_kind j_word).bind fun rr1 =>
  if rr1 = 0 then
    (f14_bad (1 : Int32) i_from i_kind i_fault i_at).bind fun rr47 =>
    gd (rr47.1 &&& 1 = rr47.1) <|
    some (rr47.1, i_to, i_from, i_kind, i_number, i_sign, rr47.2.1, rr47.2.2, i_told, i_planMany, j_word, a_plan)
  else
    if i_planMany = (20 : Int32) then
      (f14_bad (4 : Int32) i_from i_kind i_fault i_at).bind fun rr46 =>
      gd (rr46.1 &&& 1 = rr46.1) <|
      some (rr46.1, i_to, i_from, i_kind, i_number, i_sign, rr46.2.1, rr46.2.2, i_told, i_planMany, j_word, a_plan)
    else
      lt ((16 : Int32) * i_planMany) fun v4 =>
      (f14_go i_size i_limit i_to i_from i_kind i_number i_sign j_word a_tape).bind fun rr5 =>
      if i_planMany = 0 then
        f14_readTold_j63 i_size i_limit i_fault i_at i_told i_planMany a_tape a_now a_plan b_name v4 rr5 (0 : Int32)
      else
        lt (v4 - (16 : Int32)) fun v43 =>
        gd (inb v43 320) <|
        lt (a_plan v43.toNatClampNeg) fun v45 =>
        f14_readTold_j63 i_size i_limit i_fault i_at i_told i_planMany a_tape a_now a_plan b_name v4 rr5 v45
set_option maxHeartbeats 4000000 in
theorem m14_readTold (l : Launch) (G : gG) (K : gK) (I : gI) (J : gJ) (X : gX) (A : gI) (B : gJ) (Q : gX) (o : Nat) (shM : Sh K X o 11 rows11)  (i_size : Int32) (i_limit : Int32) (i_to : Int32) (i_from : Int32) (i_kind : Int32) (i_number : Int32) (i_sign : Int32) (i_fault : Int32) (i_at : Int32) (i_told : Int32) (i_planMany : Int32) (j_word : Int64) (a_tape : Nat → Int32) (a_now : Nat → Int32) (a_plan : Nat → Int32) (b_name : Nat → Int64) (e_i_size : I 1103 o = i_size) (e_i_limit : I 1104 o = i_limit) (e_i_to : I 1105 o = i_to) (e_i_from : I 1106 o = i_from) (e_i_kind : I 1107 o = i_kind) (e_i_number : I 1108 o = i_number) (e_i_sign : I 1109 o = i_sign) (e_i_fault : I 1110 o = i_fault) (e_i_at : I 1111 o = i_at) (e_i_told : I 1113 o = i_told) (e_i_planMany : I 1184 o = i_planMany) (e_j_word : J 1112 o = j_word) (e_a_tape : A (o + 1) = a_tape) (e_a_now : A (o + 2) = a_now) (e_a_plan : A (o + 4) = a_plan) (e_b_name : B (o + 6) = b_name) (out : Int32 × Int32 × Int32 × Int32 × Int32 × Int32 × Int32 × Int32 × Int32 × Int32 × Int64 × (Nat → Int32)) (hf : f14_readTold i_size i_limit i_to i_from i_kind i_number i_sign i_fault i_at i_told i_planMany j_word a_tape a_now a_plan b_name = some out) : GMet l yX14_readTold cX14_readTold 3 (some .boolean) (4) (92) G [.ref o] K I J X A B Q (some (.int out.1)) K (ov I [(1105, o, out.2.1), (1106, o, out.2.2.1), (1107, o, out.2.2.2.1), (1108, o, out.2.2.2.2.1), (1109, o, out.2.2.2.2.2.1), (1110, o, out.2.2.2.2.2.2.1), (1111, o, out.2.2.2.2.2.2.2.1), (1113, o, out.2.2.2.2.2.2.2.2.1), (1184, o, out.2.2.2.2.2.2.2.2.2.1)]) (ov J [(1112, o, out.2.2.2.2.2.2.2.2.2.2.1)]) X (ova A [((o + 1), a_tape), ((o + 2), a_now), ((o + 4), out.2.2.2.2.2.2.2.2.2.2.2)]) B Q 0 0 := by
  refine GMet.of (y := yX14_readTold) rfl (Nat.le_of_ble_eq_true rfl) rfl ?_
  intro p e s m below meth c ls hx hb hr hml hlocks hts hown hname hG hR hl
  have hown : s.vm.findClass RX14 = some m.cls := hown
  have k_a_tape : K (o + 1) = some (.inr (0, 740)) := (shM.2 0 _ rfl).1
  have k_a_now : K (o + 2) = some (.inr (0, 800)) := (shM.2 1 _ rfl).1
  have k_a_plan : K (o + 4) = some (.inr (0, 320)) := (shM.2 3 _ rfl).1
  have k_b_name : K (o + 6) = some (.inr (3, 12)) := (shM.2 5 _ rfl).1
  have hN_A : nda [(o + 1), (o + 2), (o + 4)] := nd_off o [1, 2, 4] rfl
  have hR : RS G K (ov I [(1105, o, i_to), (1106, o, i_from), (1107, o, i_kind), (1108, o, i_number), (1109, o, i_sign), (1110, o, i_fault), (1111, o, i_at), (1113, o, i_told), (1184, o, i_planMany)]) (ov J [(1112, o, j_word)]) X (ova A [((o + 1), a_tape), ((o + 2), a_now), ((o + 4), a_plan)]) B Q s.heap := hR.to (Eq.symm (ov_sc e_i_to (ov_sc e_i_from (ov_sc e_i_kind (ov_sc e_i_number (ov_sc e_i_sign (ov_sc e_i_fault (ov_sc e_i_at (ov_sc e_i_told (ov_sc e_i_planMany rfl)))))))))) (Eq.symm (ov_sc e_j_word rfl)) rfl (Eq.symm (ova_sc e_a_tape (ova_sc e_a_now (ova_sc e_a_plan rfl)))) rfl rfl
  have hS : va_S (gA G) s.heap s.heap [] := va_S.rf
  have hend : ∀ (pc : Nat) (H : Heap) (locs : List Loc) (ls : Array Slot), decode cX14_readTold pc = .ok (.ireturn, 1) → narrow .boolean (.int out.1) = .int out.1 → RS G K (ov I [(1105, o, out.2.1), (1106, o, out.2.2.1), (1107, o, out.2.2.2.1), (1108, o, out.2.2.2.2.1), (1109, o, out.2.2.2.2.2.1), (1110, o, out.2.2.2.2.2.2.1), (1111, o, out.2.2.2.2.2.2.2.1), (1113, o, out.2.2.2.2.2.2.2.2.1), (1184, o, out.2.2.2.2.2.2.2.2.2.1)]) (ov J [(1112, o, out.2.2.2.2.2.2.2.2.2.2.1)]) X (ova A [((o + 1), a_tape), ((o + 2), a_now), ((o + 4), out.2.2.2.2.2.2.2.2.2.2.2)]) B Q H → va_S (gA G) s.heap H locs → W p l e ({ frames := 4, cells := 0, slots := 0, locals := 92 } : Room) s m ([.ref o] : List Value).toArray below meth c H locs 0 0 (MQ below (gQ G (some (.int out.1)) K (ov I [(1105, o, out.2.1), (1106, o, out.2.2.1), (1107, o, out.2.2.2.1), (1108, o, out.2.2.2.2.1), (1109, o, out.2.2.2.2.2.1), (1110, o, out.2.2.2.2.2.2.1), (1111, o, out.2.2.2.2.2.2.2.1), (1113, o, out.2.2.2.2.2.2.2.2.1), (1184, o, out.2.2.2.2.2.2.2.2.2.1)]) (ov J [(1112, o, out.2.2.2.2.2.2.2.2.2.2.1)]) X (ova A [((o + 1), a_tape), ((o + 2), a_now), ((o + 4), out.2.2.2.2.2.2.2.2.2.2.2)]) B Q) ([.ref o] : List Value).toArray s 0 0 (gA G)) (F0 m pc ls [.int out.1]) := fun pc H locs ls hd hz hR hS => g_zret hx hb hr hlocks hz hG hR hS rfl hd
  generalize MQ below (gQ G (some (.int out.1)) K (ov I [(1105, o, out.2.1), (1106, o, out.2.2.1), (1107, o, out.2.2.2.1), (1108, o, out.2.2.2.2.1), (1109, o, out.2.2.2.2.2.1), (1110, o, out.2.2.2.2.2.2.1), (1111, o, out.2.2.2.2.2.2.2.1), (1113, o, out.2.2.2.2.2.2.2.2.1), (1184, o, out.2.2.2.2.2.2.2.2.2.1)]) (ov J [(1112, o, out.2.2.2.2.2.2.2.2.2.2.1)]) X (ova A [((o + 1), a_tape), ((o + 2), a_now), ((o + 4), out.2.2.2.2.2.2.2.2.2.2.2)]) B Q) ([.ref o] : List Value).toArray s 0 0 (gA G) = Z at hend ⊢
  generalize ([.ref o] : List Value).toArray = args at hts hend ⊢
  unfold f14_readTold at hf
  refine lv_aload_n hx hb dX14_readTold_0 rfl (lv_at hl 0 rfl) ?_
  refine lv_bipush (v := 14) hx hb dX14_readTold_1 lb_14 ?_
  obtain ⟨rr1, hrr1, hf⟩ := bind_s hf
  refine g0_cV (rm := (2, 46)) (As := [.int (14 : Int32)]) (rest := []) ⟨hx, hb, hml, hown, hts⟩ hG hR hS (m14_isWord l G K (ov I [(1105, o, i_to), (1106, o, i_from), (1107, o, i_kind), (1108, o, i_number), (1109, o, i_sign), (1110, o, i_fault), (1111, o, i_at), (1113, o, i_told), (1184, o, i_planMany)]) (ov J [(1112, o, j_word)]) X (ova A [((o + 1), a_tape), ((o + 2), a_now), ((o + 4), a_plan)]) B Q o shM (14 : Int32) i_kind j_word (ov_get 2 rfl rfl) (ov_get 0 rfl rfl) rr1 hrr1) (cwV 1 hts gi_X14_264 rfl rfl rfl hd_X14_isWord ⟨Nat.le_of_ble_eq_true rfl, Nat.le_of_ble_eq_true rfl⟩) shM.1 rfl rfl hl.1 (Nat.le_of_ble_eq_true rfl) dX14_readTold_3 ⟨Nat.le_refl _, Nat.le_refl _⟩ rfl (fun H locs hR hS => ?_)
  refine lv_if_ne (tgt := 15) hx hb dX14_readTold_6 (by decide) (fun c2 => ?_) (fun c2 => ?_)
  · have hf := ite_f c2 hf
    refine lv_aload_n hx hb dX14_readTold_15 rfl (lv_at hl 0 rfl) ?_
    refine n_geti (v := i_planMany) hx hb hts hown hG hR gFi_X14_491_11 shM.1 (ov_get 8 rfl rfl) dX14_readTold_16 ?_
    refine lv_bipush (v := 20) hx hb dX14_readTold_19 lb_20 ?_
    refine lv_icmp_ne (tgt := 30) hx hb dX14_readTold_21 (by decide) (fun c3 => ?_) (fun c3 => ?_)
    · have hf := ite_f c3 hf
      refine lv_bipush (v := 16) hx hb dX14_readTold_30 lb_16 ?_
      refine lv_aload_n hx hb dX14_readTold_32 rfl (lv_at hl 0 rfl) ?_
      refine n_geti (v := i_planMany) hx hb hts hown hG hR gFi_X14_491_11 shM.1 (ov_get 8 rfl rfl) dX14_readTold_33 ?_
      obtain ⟨v4, ev4, hf⟩ := lt_some hf
      refine n_imul hx hb ev4 dX14_readTold_36 ?_
      refine lv_istore_n (lv' := [(1, .int v4), (0, .ref o)]) hx hb dX14_readTold_37 rfl hl (by decide) rfl (fun ls hl => ?_)
      refine lv_aload_n hx hb dX14_readTold_38 rfl (lv_at hl 1 rfl) ?_
      obtain ⟨rr5, hrr5, hf⟩ := bind_s hf
      refine g0_cVv (rm := (1, 21)) (As := []) (rest := []) ⟨hx, hb, hml, hown, hts⟩ hG hR hS (m14_go l G K (ov I [(1105, o, i_to), (1106, o, i_from), (1107, o, i_kind), (1108, o, i_number), (1109, o, i_sign), (1110, o, i_fault), (1111, o, i_at), (1113, o, i_told), (1184, o, i_planMany)]) (ov J [(1112, o, j_word)]) X (ova A [((o + 1), a_tape), ((o + 2), a_now), ((o + 4), a_plan)]) B Q o shM i_size i_limit i_to i_from i_kind i_number i_sign j_word a_tape ((congrFun (ov_no rfl) _).trans e_i_size) ((congrFun (ov_no rfl) _).trans e_i_limit) (ov_get 0 rfl rfl) (ov_get 1 rfl rfl) (ov_get 2 rfl rfl) (ov_get 3 rfl rfl) (ov_get 4 rfl rfl) (ov_get 0 rfl rfl) (ova_get 0 hN_A rfl) rr5 hrr5) (cwV 0 hts gi_X14_226 rfl rfl rfl hd_X14_go ⟨Nat.le_of_ble_eq_true rfl, Nat.le_of_ble_eq_true rfl⟩) shM.1 rfl rfl hl.1 (Nat.le_of_ble_eq_true rfl) dX14_readTold_39 ⟨Nat.le_refl _, Nat.le_refl _⟩ rfl (fun H locs hR hS => ?_)
      have hR : RS G K (ov I [(1105, o, rr5.1), (1106, o, rr5.2.1), (1107, o, rr5.2.2.1), (1108, o, rr5.2.2.2.1), (1109, o, rr5.2.2.2.2.1), (1110, o, i_fault), (1111, o, i_at), (1113, o, i_told), (1184, o, i_planMany)]) (ov J [(1112, o, rr5.2.2.2.2.2)]) X (ova A [((o + 1), a_tape), ((o + 2), a_now), ((o + 4), a_plan)]) B Q H := hR.to (ov_merge (l := [(1105, o, i_to), (1106, o, i_from), (1107, o, i_kind), (1108, o, i_number), (1109, o, i_sign), (1110, o, i_fault), (1111, o, i_at), (1113, o, i_told), (1184, o, i_planMany)]) rfl [0, 1, 2, 3, 4] [(1105, o, rr5.1), (1106, o, rr5.2.1), (1107, o, rr5.2.2.1), (1108, o, rr5.2.2.2.1), (1109, o, rr5.2.2.2.2.1)] rfl rfl) (ov_merge (l := [(1112, o, j_word)]) rfl [0] [(1112, o, rr5.2.2.2.2.2)] rfl rfl) rfl rfl rfl rfl
      refine lv_aload_n hx hb dX14_readTold_42 rfl (lv_at hl 1 rfl) ?_
      refine lv_aload_n hx hb dX14_readTold_43 rfl (lv_at hl 1 rfl) ?_
      refine n_geti (v := i_planMany) hx hb hts hown hG hR gFi_X14_491_11 shM.1 (ov_get 8 rfl rfl) dX14_readTold_44 ?_
      have hj63 : ∀ (j63_s0 : Int32), f14_readTold_j63 i_size i_limit i_fault i_at i_told i_planMany a_tape a_now a_plan b_name v4 rr5 j63_s0 = some out → ∀ (H : Heap) (locs : List Loc) (ls : Array Slot), RS G K (ov I [(1105, o, rr5.1), (1106, o, rr5.2.1), (1107, o, rr5.2.2.1), (1108, o, rr5.2.2.2.1), (1109, o, rr5.2.2.2.2.1), (1110, o, i_fault), (1111, o, i_at), (1113, o, i_told), (1184, o, i_planMany)]) (ov J [(1112, o, rr5.2.2.2.2.2)]) X (ova A [((o + 1), a_tape), ((o + 2), a_now), ((o + 4), a_plan)]) B Q H → va_S (gA G) s.heap H locs → lv_has ls 3 [(0, .ref o), (1, .int v4)] → W p l e ({ frames := 4, cells := 0, slots := 0, locals := 92 } : Room) s m args below meth c H locs 0 0 Z (F0 m 63 ls [.int j63_s0, .ref o]) := by
        intro j63_s0 hf H locs ls hR hS hl
        unfold f14_readTold_j63 at hf
        refine lv_bipush (v := 59) hx hb dX14_readTold_63 lb_59 ?_
        obtain ⟨rr6, hrr6, hf⟩ := bind_s hf
        refine g0_cV (rm := (2, 45)) (As := [.int j63_s0, .int (59 : Int32)]) (rest := []) ⟨hx, hb, hml, hown, hts⟩ hG hR hS (m14_readNumber l G K (ov I [(1105, o, rr5.1), (1106, o, rr5.2.1), (1107, o, rr5.2.2.1), (1108, o, rr5.2.2.2.1), (1109, o, rr5.2.2.2.2.1), (1110, o, i_fault), (1111, o, i_at), (1113, o, i_told), (1184, o, i_planMany)]) (ov J [(1112, o, rr5.2.2.2.2.2)]) X (ova A [((o + 1), a_tape), ((o + 2), a_now), ((o + 4), a_plan)]) B Q o shM j63_s0 (59 : Int32) i_size i_limit rr5.1 rr5.2.1 rr5.2.2.1 rr5.2.2.2.1 rr5.2.2.2.2.1 i_fault i_at i_told rr5.2.2.2.2.2 a_tape ((congrFun (ov_no rfl) _).trans e_i_size) ((congrFun (ov_no rfl) _).trans e_i_limit) (ov_get 0 rfl rfl) (ov_get 1 rfl rfl) (ov_get 2 rfl rfl) (ov_get 3 rfl rfl) (ov_get 4 rfl rfl) (ov_get 5 rfl rfl) (ov_get 6 rfl rfl) (ov_get 7 rfl rfl) (ov_get 0 rfl rfl) (ova_get 0 hN_A rfl) rr6 hrr6) (cwV 2 hts gi_X14_251 rfl rfl rfl hd_X14_readNumber ⟨Nat.le_of_ble_eq_true rfl, Nat.le_of_ble_eq_true rfl⟩) shM.1 rfl rfl hl.1 (Nat.le_of_ble_eq_true rfl) dX14_readTold_65 ⟨Nat.le_refl _, Nat.le_refl _⟩ rfl (fun H locs hR hS => ?_)
        have hR : RS G K (ov I [(1105, o, rr6.2.1), (1106, o, rr6.2.2.1), (1107, o, rr6.2.2.2.1), (1108, o, rr6.2.2.2.2.1), (1109, o, rr6.2.2.2.2.2.1), (1110, o, rr6.2.2.2.2.2.2.1), (1111, o, rr6.2.2.2.2.2.2.2.1), (1113, o, rr6.2.2.2.2.2.2.2.2.1), (1184, o, i_planMany)]) (ov J [(1112, o, rr6.2.2.2.2.2.2.2.2.2)]) X (ova A [((o + 1), a_tape), ((o + 2), a_now), ((o + 4), a_plan)]) B Q H := hR.to (ov_merge (l := [(1105, o, rr5.1), (1106, o, rr5.2.1), (1107, o, rr5.2.2.1), (1108, o, rr5.2.2.2.1), (1109, o, rr5.2.2.2.2.1), (1110, o, i_fault), (1111, o, i_at), (1113, o, i_told), (1184, o, i_planMany)]) rfl [0, 1, 2, 3, 4, 5, 6, 7] [(1105, o, rr6.2.1), (1106, o, rr6.2.2.1), (1107, o, rr6.2.2.2.1), (1108, o, rr6.2.2.2.2.1), (1109, o, rr6.2.2.2.2.2.1), (1110, o, rr6.2.2.2.2.2.2.1), (1111, o, rr6.2.2.2.2.2.2.2.1), (1113, o, rr6.2.2.2.2.2.2.2.2.1)] rfl rfl) (ov_merge (l := [(1112, o, rr5.2.2.2.2.2)]) rfl [0] [(1112, o, rr6.2.2.2.2.2.2.2.2.2)] rfl rfl) rfl rfl rfl rfl
        refine lv_if_ne (tgt := 73) hx hb dX14_readTold_68 (by decide) (fun c7 => ?_) (fun c7 => ?_)
        · have hf := ite_f c7 hf
          refine lv_aload_n hx hb dX14_readTold_73 rfl (lv_at hl 0 rfl) ?_
          refine g_getr (b := (o + 4)) hx hb hts hown hG hR gFx_X14_19_11 shM.1 ((shM.2 3 _ rfl).2) dX14_readTold_74 ?_
          refine lv_iload_n hx hb dX14_readTold_77 rfl (lv_at hl 1 rfl) ?_
          refine lv_aload_n hx hb dX14_readTold_78 rfl (lv_at hl 0 rfl) ?_
          refine n_geti (v := rr6.2.2.2.2.2.2.2.2.1) hx hb hts hown hG hR gFi_X14_223_11 shM.1 (ov_get 7 rfl rfl) dX14_readTold_79 ?_
          obtain ⟨c8, hf⟩ := gd_some hf
          obtain ⟨u9, eu9, hf⟩ := lt_some hf
          refine n_iast (la' := [((o + 1), a_tape), ((o + 2), a_now), ((o + 4), u9)]) hx hb hG hR hS k_a_plan c8 hN_A 2 rfl eu9 rfl dX14_readTold_82 (fun H locs hR hS => ?_)
          refine lv_bipush (v := 15) hx hb dX14_readTold_83 lb_15 ?_
          refine lv_istore_n (lv' := [(2, .int (15 : Int32)), (0, .ref o), (1, .int v4)]) hx hb dX14_readTold_85 rfl hl (by decide) rfl (fun ls hl => ?_)
          obtain ⟨rl10, hw10, hfo10⟩ := bind_s hf
          have hx10_0 : ∀ (x10_0 : Int32), f14_readTold_e10_0 i_size i_limit i_planMany a_tape a_now b_name v4 rr6 u9 x10_0 = some out → ∀ (H : Heap) (locs : List Loc) (ls : Array Slot), RS G K (ov I [(1105, o, rr6.2.1), (1106, o, rr6.2.2.1), (1107, o, rr6.2.2.2.1), (1108, o, rr6.2.2.2.2.1), (1109, o, rr6.2.2.2.2.2.1), (1110, o, rr6.2.2.2.2.2.2.1), (1111, o, rr6.2.2.2.2.2.2.2.1), (1113, o, rr6.2.2.2.2.2.2.2.2.1), (1184, o, i_planMany)]) (ov J [(1112, o, rr6.2.2.2.2.2.2.2.2.2)]) X (ova A [((o + 1), a_tape), ((o + 2), a_now), ((o + 4), u9)]) B Q H → va_S (gA G) s.heap H locs → lv_has ls 3 [(0, .ref o), (1, .int v4), (2, .int x10_0)] → W p l e ({ frames := 4, cells := 0, slots := 0, locals := 92 } : Room) s m args below meth c H locs 0 0 Z (F0 m 106 ls []) := by
            intro x10_0 hf H locs ls hR hS hl
            unfold f14_readTold_e10_0 at hf
            refine lv_iload_n hx hb dX14_readTold_106 rfl (lv_at hl 2 rfl) ?_
            refine lv_bipush (v := 19) hx hb dX14_readTold_107 lb_19 ?_
            refine lv_icmp_le (tgt := 118) hx hb dX14_readTold_109 (by decide) (fun c11 => ?_) (fun c11 => ?_)
            · have hf := ite_t c11 hf
              refine lv_aload_n hx hb dX14_readTold_118 rfl (lv_at hl 0 rfl) ?_
              refine g_getr (b := (o + 4)) hx hb hts hown hG hR gFx_X14_19_11 shM.1 ((shM.2 3 _ rfl).2) dX14_readTold_119 ?_
              refine lv_iload_n hx hb dX14_readTold_122 rfl (lv_at hl 1 rfl) ?_
              refine lv_iconst (v := 1) hx hb dX14_readTold_123 li_1 ?_
              obtain ⟨v12, ev12, hf⟩ := lt_some hf
              refine n_iadd hx hb ev12 dX14_readTold_124 ?_
              refine lv_iload_n hx hb dX14_readTold_125 rfl (lv_at hl 2 rfl) ?_
              refine lv_bipush (v := 15) hx hb dX14_readTold_126 lb_15 ?_
              obtain ⟨v13, ev13, hf⟩ := lt_some hf
              refine n_isub hx hb ev13 dX14_readTold_128 ?_
              obtain ⟨c14, hf⟩ := gd_some hf
              obtain ⟨u15, eu15, hf⟩ := lt_some hf
              refine n_iast (la' := [((o + 1), a_tape), ((o + 2), a_now), ((o + 4), u15)]) hx hb hG hR hS k_a_plan c14 hN_A 2 rfl eu15 rfl dX14_readTold_129 (fun H locs hR hS => ?_)
              refine lv_aload_n hx hb dX14_readTold_130 rfl (lv_at hl 0 rfl) ?_
              obtain ⟨rr16, hrr16, hf⟩ := bind_s hf
              refine g0_cVv (rm := (1, 21)) (As := []) (rest := []) ⟨hx, hb, hml, hown, hts⟩ hG hR hS (m14_go l G K (ov I [(1105, o, rr6.2.1), (1106, o, rr6.2.2.1), (1107, o, rr6.2.2.2.1), (1108, o, rr6.2.2.2.2.1), (1109, o, rr6.2.2.2.2.2.1), (1110, o, rr6.2.2.2.2.2.2.1), (1111, o, rr6.2.2.2.2.2.2.2.1), (1113, o, rr6.2.2.2.2.2.2.2.2.1), (1184, o, i_planMany)]) (ov J [(1112, o, rr6.2.2.2.2.2.2.2.2.2)]) X (ova A [((o + 1), a_tape), ((o + 2), a_now), ((o + 4), u15)]) B Q o shM i_size i_limit rr6.2.1 rr6.2.2.1 rr6.2.2.2.1 rr6.2.2.2.2.1 rr6.2.2.2.2.2.1 rr6.2.2.2.2.2.2.2.2.2 a_tape ((congrFun (ov_no rfl) _).trans e_i_size) ((congrFun (ov_no rfl) _).trans e_i_limit) (ov_get 0 rfl rfl) (ov_get 1 rfl rfl) (ov_get 2 rfl rfl) (ov_get 3 rfl rfl) (ov_get 4 rfl rfl) (ov_get 0 rfl rfl) (ova_get 0 hN_A rfl) rr16 hrr16) (cwV 0 hts gi_X14_226 rfl rfl rfl hd_X14_go ⟨Nat.le_of_ble_eq_true rfl, Nat.le_of_ble_eq_true rfl⟩) shM.1 rfl rfl hl.1 (Nat.le_of_ble_eq_true rfl) dX14_readTold_131 ⟨Nat.le_refl _, Nat.le_refl _⟩ rfl (fun H locs hR hS => ?_)
              have hR : RS G K (ov I [(1105, o, rr16.1), (1106, o, rr16.2.1), (1107, o, rr16.2.2.1), (1108, o, rr16.2.2.2.1), (1109, o, rr16.2.2.2.2.1), (1110, o, rr6.2.2.2.2.2.2.1), (1111, o, rr6.2.2.2.2.2.2.2.1), (1113, o, rr6.2.2.2.2.2.2.2.2.1), (1184, o, i_planMany)]) (ov J [(1112, o, rr16.2.2.2.2.2)]) X (ova A [((o + 1), a_tape), ((o + 2), a_now), ((o + 4), u15)]) B Q H := hR.to (ov_merge (l := [(1105, o, rr6.2.1), (1106, o, rr6.2.2.1), (1107, o, rr6.2.2.2.1), (1108, o, rr6.2.2.2.2.1), (1109, o, rr6.2.2.2.2.2.1), (1110, o, rr6.2.2.2.2.2.2.1), (1111, o, rr6.2.2.2.2.2.2.2.1), (1113, o, rr6.2.2.2.2.2.2.2.2.1), (1184, o, i_planMany)]) rfl [0, 1, 2, 3, 4] [(1105, o, rr16.1), (1106, o, rr16.2.1), (1107, o, rr16.2.2.1), (1108, o, rr16.2.2.2.1), (1109, o, rr16.2.2.2.2.1)] rfl rfl) (ov_merge (l := [(1112, o, rr6.2.2.2.2.2.2.2.2.2)]) rfl [0] [(1112, o, rr16.2.2.2.2.2)] rfl rfl) rfl rfl rfl rfl
              refine lv_iload_n hx hb dX14_readTold_134 rfl (lv_at hl 2 rfl) ?_
              refine lv_bipush (v := 15) hx hb dX14_readTold_135 lb_15 ?_
              have hj240 : ∀ (j240_i_to : Int32) (j240_i_from : Int32) (j240_i_kind : Int32) (j240_i_number : Int32) (j240_i_sign : Int32) (j240_i_fault : Int32) (j240_i_at : Int32) (j240_j_word : Int64) (j240_a_plan : Nat → Int32), f14_readTold_j240 i_size i_limit i_planMany a_tape rr6 j240_i_to j240_i_from j240_i_kind j240_i_number j240_i_sign j240_i_fault j240_i_at j240_j_word j240_a_plan = some out → ∀ (H : Heap) (locs : List Loc) (ls : Array Slot), RS G K (ov I [(1105, o, j240_i_to), (1106, o, j240_i_from), (1107, o, j240_i_kind), (1108, o, j240_i_number), (1109, o, j240_i_sign), (1110, o, j240_i_fault), (1111, o, j240_i_at), (1113, o, rr6.2.2.2.2.2.2.2.2.1), (1184, o, i_planMany)]) (ov J [(1112, o, j240_j_word)]) X (ova A [((o + 1), a_tape), ((o + 2), a_now), ((o + 4), j240_a_plan)]) B Q H → va_S (gA G) s.heap H locs → lv_has ls 3 [(0, .ref o)] → W p l e ({ frames := 4, cells := 0, slots := 0, locals := 92 } : Room) s m args below meth c H locs 0 0 Z (F0 m 240 ls []) := by
                intro j240_i_to j240_i_from j240_i_kind j240_i_number j240_i_sign j240_i_fault j240_i_at j240_j_word j240_a_plan hf H locs ls hR hS hl
                unfold f14_readTold_j240 at hf
                refine lv_aload_n hx hb dX14_readTold_240 rfl (lv_at hl 0 rfl) ?_
                refine lv_dup hx hb dX14_readTold_241 rfl ?_
                refine n_geti (v := i_planMany) hx hb hts hown hG hR gFi_X14_491_11 shM.1 (ov_get 8 rfl rfl) dX14_readTold_242 ?_
                refine lv_iconst (v := 1) hx hb dX14_readTold_245 li_1 ?_
                obtain ⟨v17, ev17, hf⟩ := lt_some hf
                refine n_iadd hx hb ev17 dX14_readTold_246 ?_
                refine n_puti (li' := [(1105, o, j240_i_to), (1106, o, j240_i_from), (1107, o, j240_i_kind), (1108, o, j240_i_number), (1109, o, j240_i_sign), (1110, o, j240_i_fault), (1111, o, j240_i_at), (1113, o, rr6.2.2.2.2.2.2.2.2.1), (1184, o, v17)]) hx hb hts hown hG hR hS gPi_X14_491_11 shM.1 8 rfl rfl rfl dX14_readTold_247 (fun H locs hR hS => ?_)
                refine lv_aload_n hx hb dX14_readTold_250 rfl (lv_at hl 0 rfl) ?_
                obtain ⟨rr18, hrr18, hf⟩ := bind_s hf
                refine g0_cV (rm := (2, 45)) (As := []) (rest := []) ⟨hx, hb, hml, hown, hts⟩ hG hR hS (m14_readEnd l G K (ov I [(1105, o, j240_i_to), (1106, o, j240_i_from), (1107, o, j240_i_kind), (1108, o, j240_i_number), (1109, o, j240_i_sign), (1110, o, j240_i_fault), (1111, o, j240_i_at), (1113, o, rr6.2.2.2.2.2.2.2.2.1), (1184, o, v17)]) (ov J [(1112, o, j240_j_word)]) X (ova A [((o + 1), a_tape), ((o + 2), a_now), ((o + 4), j240_a_plan)]) B Q o shM i_size i_limit j240_i_to j240_i_from j240_i_kind j240_i_number j240_i_sign j240_i_fault j240_i_at j240_j_word a_tape ((congrFun (ov_no rfl) _).trans e_i_size) ((congrFun (ov_no rfl) _).trans e_i_limit) (ov_get 0 rfl rfl) (ov_get 1 rfl rfl) (ov_get 2 rfl rfl) (ov_get 3 rfl rfl) (ov_get 4 rfl rfl) (ov_get 5 rfl rfl) (ov_get 6 rfl rfl) (ov_get 0 rfl rfl) (ova_get 0 hN_A rfl) rr18 hrr18) (cwV 0 hts gi_X14_279 rfl rfl rfl hd_X14_readEnd ⟨Nat.le_of_ble_eq_true rfl, Nat.le_of_ble_eq_true rfl⟩) shM.1 rfl rfl hl.1 (Nat.le_of_ble_eq_true rfl) dX14_readTold_251 ⟨Nat.le_refl _, Nat.le_refl _⟩ rfl (fun H locs hR hS => ?_)
                have hR : RS G K (ov I [(1105, o, rr18.2.1), (1106, o, rr18.2.2.1), (1107, o, rr18.2.2.2.1), (1108, o, rr18.2.2.2.2.1), (1109, o, rr18.2.2.2.2.2.1), (1110, o, rr18.2.2.2.2.2.2.1), (1111, o, rr18.2.2.2.2.2.2.2.1), (1113, o, rr6.2.2.2.2.2.2.2.2.1), (1184, o, v17)]) (ov J [(1112, o, rr18.2.2.2.2.2.2.2.2)]) X (ova A [((o + 1), a_tape), ((o + 2), a_now), ((o + 4), j240_a_plan)]) B Q H := hR.to (ov_merge (l := [(1105, o, j240_i_to), (1106, o, j240_i_from), (1107, o, j240_i_kind), (1108, o, j240_i_number), (1109, o, j240_i_sign), (1110, o, j240_i_fault), (1111, o, j240_i_at), (1113, o, rr6.2.2.2.2.2.2.2.2.1), (1184, o, v17)]) rfl [0, 1, 2, 3, 4, 5, 6] [(1105, o, rr18.2.1), (1106, o, rr18.2.2.1), (1107, o, rr18.2.2.2.1), (1108, o, rr18.2.2.2.2.1), (1109, o, rr18.2.2.2.2.2.1), (1110, o, rr18.2.2.2.2.2.2.1), (1111, o, rr18.2.2.2.2.2.2.2.1)] rfl rfl) (ov_merge (l := [(1112, o, j240_j_word)]) rfl [0] [(1112, o, rr18.2.2.2.2.2.2.2.2)] rfl rfl) rfl rfl rfl rfl
                obtain ⟨hz9, hf⟩ := gd_some hf
                obtain rfl := some_i hf
                exact hend _ _ _ _ dX14_readTold_254 (congrArg Value.int hz9) hR hS
              have hj146 : ∀ (j146_i_to : Int32) (j146_i_from : Int32) (j146_i_kind : Int32) (j146_i_number : Int32) (j146_i_sign : Int32) (j146_i_fault : Int32) (j146_i_at : Int32) (j146_j_word : Int64) (j146_a_plan : Nat → Int32), f14_readTold_j146 i_size i_limit i_planMany a_tape a_now b_name v4 rr6 x10_0 j146_i_to j146_i_from j146_i_kind j146_i_number j146_i_sign j146_i_fault j146_i_at j146_j_word j146_a_plan = some out → ∀ (H : Heap) (locs : List Loc) (ls : Array Slot), RS G K (ov I [(1105, o, j146_i_to), (1106, o, j146_i_from), (1107, o, j146_i_kind), (1108, o, j146_i_number), (1109, o, j146_i_sign), (1110, o, j146_i_fault), (1111, o, j146_i_at), (1113, o, rr6.2.2.2.2.2.2.2.2.1), (1184, o, i_planMany)]) (ov J [(1112, o, j146_j_word)]) X (ova A [((o + 1), a_tape), ((o + 2), a_now), ((o + 4), j146_a_plan)]) B Q H → va_S (gA G) s.heap H locs → lv_has ls 3 [(0, .ref o), (1, .int v4), (2, .int x10_0)] → W p l e ({ frames := 4, cells := 0, slots := 0, locals := 92 } : Room) s m args below meth c H locs 0 0 Z (F0 m 146 ls []) := by
                intro j146_i_to j146_i_from j146_i_kind j146_i_number j146_i_sign j146_i_fault j146_i_at j146_j_word j146_a_plan hf H locs ls hR hS hl
                unfold f14_readTold_j146 at hf
                refine lv_aload_n hx hb dX14_readTold_146 rfl (lv_at hl 0 rfl) ?_
                refine lv_iload_n hx hb dX14_readTold_147 rfl (lv_at hl 1 rfl) ?_
                refine lv_iload_n hx hb dX14_readTold_148 rfl (lv_at hl 2 rfl) ?_
                refine lv_bipush (v := 15) hx hb dX14_readTold_149 lb_15 ?_
                have hj159 : ∀ (j159_s0 : Int32), f14_readTold_j159 i_size i_limit i_planMany a_tape a_now b_name v4 rr6 j146_i_to j146_i_from j146_i_kind j146_i_number j146_i_sign j146_i_fault j146_i_at j146_j_word j146_a_plan j159_s0 = some out → ∀ (H : Heap) (locs : List Loc) (ls : Array Slot), RS G K (ov I [(1105, o, j146_i_to), (1106, o, j146_i_from), (1107, o, j146_i_kind), (1108, o, j146_i_number), (1109, o, j146_i_sign), (1110, o, j146_i_fault), (1111, o, j146_i_at), (1113, o, rr6.2.2.2.2.2.2.2.2.1), (1184, o, i_planMany)]) (ov J [(1112, o, j146_j_word)]) X (ova A [((o + 1), a_tape), ((o + 2), a_now), ((o + 4), j146_a_plan)]) B Q H → va_S (gA G) s.heap H locs → lv_has ls 3 [(0, .ref o)] → W p l e ({ frames := 4, cells := 0, slots := 0, locals := 92 } : Room) s m args below meth c H locs 0 0 Z (F0 m 159 ls [.int j159_s0, .int v4, .ref o]) := by
                  intro j159_s0 hf H locs ls hR hS hl
                  unfold f14_readTold_j159 at hf
                  obtain ⟨rr19, hrr19, hf⟩ := bind_s hf
                  refine g0_cV (rm := (3, 67)) (As := [.int v4, .int j159_s0]) (rest := []) ⟨hx, hb, hml, hown, hts⟩ hG hR hS (m14_readMen l G K (ov I [(1105, o, j146_i_to), (1106, o, j146_i_from), (1107, o, j146_i_kind), (1108, o, j146_i_number), (1109, o, j146_i_sign), (1110, o, j146_i_fault), (1111, o, j146_i_at), (1113, o, rr6.2.2.2.2.2.2.2.2.1), (1184, o, i_planMany)]) (ov J [(1112, o, j146_j_word)]) X (ova A [((o + 1), a_tape), ((o + 2), a_now), ((o + 4), j146_a_plan)]) B Q o shM v4 j159_s0 i_size i_limit j146_i_to j146_i_from j146_i_kind j146_i_number j146_i_sign j146_i_fault j146_i_at j146_j_word a_tape a_now j146_a_plan b_name ((congrFun (ov_no rfl) _).trans e_i_size) ((congrFun (ov_no rfl) _).trans e_i_limit) (ov_get 0 rfl rfl) (ov_get 1 rfl rfl) (ov_get 2 rfl rfl) (ov_get 3 rfl rfl) (ov_get 4 rfl rfl) (ov_get 5 rfl rfl) (ov_get 6 rfl rfl) (ov_get 0 rfl rfl) (ova_get 0 hN_A rfl) (ova_get 1 hN_A rfl) (ova_get 2 hN_A rfl) e_b_name rr19 hrr19) (cwV 2 hts gi_X14_494 rfl rfl rfl hd_X14_readMen ⟨Nat.le_of_ble_eq_true rfl, Nat.le_of_ble_eq_true rfl⟩) shM.1 rfl rfl hl.1 (Nat.le_of_ble_eq_true rfl) dX14_readTold_159 ⟨Nat.le_refl _, Nat.le_refl _⟩ rfl (fun H locs hR hS => ?_)
                  have hR : RS G K (ov I [(1105, o, rr19.2.1), (1106, o, rr19.2.2.1), (1107, o, rr19.2.2.2.1), (1108, o, rr19.2.2.2.2.1), (1109, o, rr19.2.2.2.2.2.1), (1110, o, rr19.2.2.2.2.2.2.1), (1111, o, rr19.2.2.2.2.2.2.2.1), (1113, o, rr6.2.2.2.2.2.2.2.2.1), (1184, o, i_planMany)]) (ov J [(1112, o, rr19.2.2.2.2.2.2.2.2.1)]) X (ova A [((o + 1), a_tape), ((o + 2), a_now), ((o + 4), rr19.2.2.2.2.2.2.2.2.2)]) B Q H := hR.to (ov_merge (l := [(1105, o, j146_i_to), (1106, o, j146_i_from), (1107, o, j146_i_kind), (1108, o, j146_i_number), (1109, o, j146_i_sign), (1110, o, j146_i_fault), (1111, o, j146_i_at), (1113, o, rr6.2.2.2.2.2.2.2.2.1), (1184, o, i_planMany)]) rfl [0, 1, 2, 3, 4, 5, 6] [(1105, o, rr19.2.1), (1106, o, rr19.2.2.1), (1107, o, rr19.2.2.2.1), (1108, o, rr19.2.2.2.2.1), (1109, o, rr19.2.2.2.2.2.1), (1110, o, rr19.2.2.2.2.2.2.1), (1111, o, rr19.2.2.2.2.2.2.2.1)] rfl rfl) (ov_merge (l := [(1112, o, j146_j_word)]) rfl [0] [(1112, o, rr19.2.2.2.2.2.2.2.2.1)] rfl rfl) rfl (ova_merge (l := [((o + 1), a_tape), ((o + 2), a_now), ((o + 4), j146_a_plan)]) hN_A [0, 1, 2] [((o + 1), a_tape), ((o + 2), a_now), ((o + 4), rr19.2.2.2.2.2.2.2.2.2)] rfl rfl) rfl rfl
                  refine lv_if_ne (tgt := 240) hx hb dX14_readTold_162 (by decide) (fun c20 => ?_) (fun c20 => ?_)
                  · have hf := ite_f c20 hf
                    exact hj240 rr19.2.1 rr19.2.2.1 rr19.2.2.2.1 rr19.2.2.2.2.1 rr19.2.2.2.2.2.1 rr19.2.2.2.2.2.2.1 rr19.2.2.2.2.2.2.2.1 rr19.2.2.2.2.2.2.2.2.1 rr19.2.2.2.2.2.2.2.2.2 hf _ _ _ hR hS (lv_sub hl [0] rfl)
                  · have hf := ite_t c20 hf
                    refine lv_iconst (v := 0) hx hb dX14_readTold_165 li_0 ?_
                    obtain rfl := some_i hf
                    exact hend _ _ _ _ dX14_readTold_166 nz_0 hR hS
                refine lv_icmp_ne (tgt := 158) hx hb dX14_readTold_151 (by decide) (fun c21 => ?_) (fun c21 => ?_)
                · have hf := ite_f c21 hf
                  refine lv_iconst (v := 1) hx hb dX14_readTold_158 li_1 ?_
                  exact hj159 (1 : Int32) hf _ _ _ hR hS (lv_sub hl [0] rfl)
                · have hf := ite_t c21 hf
                  refine lv_iconst (v := 2) hx hb dX14_readTold_154 li_2 ?_
                  refine lv_goto (tgt := 159) hx hb dX14_readTold_155 (by decide) ?_
                  exact hj159 (2 : Int32) hf _ _ _ hR hS (lv_sub hl [0] rfl)
              refine lv_icmp_eq (tgt := 146) hx hb dX14_readTold_137 (by decide) (fun c22 => ?_) (fun c22 => ?_)
              · have hf := ite_t c22 hf
                exact hj146 rr16.1 rr16.2.1 rr16.2.2.1 rr16.2.2.2.1 rr16.2.2.2.2.1 rr6.2.2.2.2.2.2.1 rr6.2.2.2.2.2.2.2.1 rr16.2.2.2.2.2 u15 hf _ _ _ hR hS (lv_sub hl [0, 1, 2] rfl)
              · have hf := ite_f c22 hf
                refine lv_iload_n hx hb dX14_readTold_140 rfl (lv_at hl 2 rfl) ?_
                refine lv_bipush (v := 16) hx hb dX14_readTold_141 lb_16 ?_
                refine lv_icmp_ne (tgt := 167) hx hb dX14_readTold_143 (by decide) (fun c23 => ?_) (fun c23 => ?_)
                · have hf := ite_f c23 hf
                  refine lv_iload_n hx hb dX14_readTold_167 rfl (lv_at hl 2 rfl) ?_
                  refine lv_bipush (v := 17) hx hb dX14_readTold_168 lb_17 ?_
                  refine lv_icmp_eq (tgt := 240) hx hb dX14_readTold_170 (by decide) (fun c24 => ?_) (fun c24 => ?_)
                  · have hf := ite_t c24 hf
                    exact hj240 rr16.1 rr16.2.1 rr16.2.2.1 rr16.2.2.2.1 rr16.2.2.2.2.1 rr6.2.2.2.2.2.2.1 rr6.2.2.2.2.2.2.2.1 rr16.2.2.2.2.2 u15 hf _ _ _ hR hS (lv_sub hl [0] rfl)
                  · have hf := ite_f c24 hf
                    refine lv_aload_n hx hb dX14_readTold_173 rfl (lv_at hl 0 rfl) ?_
                    refine n_geti (v := rr16.2.2.1) hx hb hts hown hG hR gFi_X14_170_11 shM.1 (ov_get 2 rfl rfl) dX14_readTold_174 ?_
                    refine lv_iconst (v := 3) hx hb dX14_readTold_177 li_3 ?_
                    refine lv_icmp_eq (tgt := 187) hx hb dX14_readTold_178 (by decide) (fun c25 => ?_) (fun c25 => ?_)
                    · have hf := ite_t c25 hf
                      refine lv_iload_n hx hb dX14_readTold_187 rfl (lv_at hl 2 rfl) ?_
                      refine lv_bipush (v := 18) hx hb dX14_readTold_188 lb_18 ?_
                      have hj224 : ∀ (j224_i_fault : Int32) (j224_i_at : Int32), f14_readTold_j224 i_size i_limit i_planMany a_tape v4 rr6 u15 rr16 j224_i_fault j224_i_at = some out → ∀ (H : Heap) (locs : List Loc) (ls : Array Slot), RS G K (ov I [(1105, o, rr16.1), (1106, o, rr16.2.1), (1107, o, rr16.2.2.1), (1108, o, rr16.2.2.2.1), (1109, o, rr16.2.2.2.2.1), (1110, o, j224_i_fault), (1111, o, j224_i_at), (1113, o, rr6.2.2.2.2.2.2.2.2.1), (1184, o, i_planMany)]) (ov J [(1112, o, rr16.2.2.2.2.2)]) X (ova A [((o + 1), a_tape), ((o + 2), a_now), ((o + 4), u15)]) B Q H → va_S (gA G) s.heap H locs → lv_has ls 3 [(0, .ref o), (1, .int v4)] → W p l e ({ frames := 4, cells := 0, slots := 0, locals := 92 } : Room) s m args below meth c H locs 0 0 Z (F0 m 224 ls []) := by
                        intro j224_i_fault j224_i_at hf H locs ls hR hS hl
                        unfold f14_readTold_j224 at hf
                        refine lv_aload_n hx hb dX14_readTold_224 rfl (lv_at hl 0 rfl) ?_
                        refine g_getr (b := (o + 4)) hx hb hts hown hG hR gFx_X14_19_11 shM.1 ((shM.2 3 _ rfl).2) dX14_readTold_225 ?_
                        refine lv_iload_n hx hb dX14_readTold_228 rfl (lv_at hl 1 rfl) ?_
                        refine lv_iconst (v := 2) hx hb dX14_readTold_229 li_2 ?_
                        obtain ⟨v26, ev26, hf⟩ := lt_some hf
                        refine n_iadd hx hb ev26 dX14_readTold_230 ?_
                        refine lv_aload_n hx hb dX14_readTold_231 rfl (lv_at hl 0 rfl) ?_
                        refine n_geti (v := rr16.2.2.2.1) hx hb hts hown hG hR gFi_X14_187_11 shM.1 (ov_get 3 rfl rfl) dX14_readTold_232 ?_
                        obtain ⟨c27, hf⟩ := gd_some hf
                        obtain ⟨u28, eu28, hf⟩ := lt_some hf
                        refine n_iast (la' := [((o + 1), a_tape), ((o + 2), a_now), ((o + 4), u28)]) hx hb hG hR hS k_a_plan c27 hN_A 2 rfl eu28 rfl dX14_readTold_235 (fun H locs hR hS => ?_)
                        refine lv_aload_n hx hb dX14_readTold_236 rfl (lv_at hl 0 rfl) ?_
                        obtain ⟨rr29, hrr29, hf⟩ := bind_s hf
                        refine g0_cVv (rm := (1, 21)) (As := []) (rest := []) ⟨hx, hb, hml, hown, hts⟩ hG hR hS (m14_go l G K (ov I [(1105, o, rr16.1), (1106, o, rr16.2.1), (1107, o, rr16.2.2.1), (1108, o, rr16.2.2.2.1), (1109, o, rr16.2.2.2.2.1), (1110, o, j224_i_fault), (1111, o, j224_i_at), (1113, o, rr6.2.2.2.2.2.2.2.2.1), (1184, o, i_planMany)]) (ov J [(1112, o, rr16.2.2.2.2.2)]) X (ova A [((o + 1), a_tape), ((o + 2), a_now), ((o + 4), u28)]) B Q o shM i_size i_limit rr16.1 rr16.2.1 rr16.2.2.1 rr16.2.2.2.1 rr16.2.2.2.2.1 rr16.2.2.2.2.2 a_tape ((congrFun (ov_no rfl) _).trans e_i_size) ((congrFun (ov_no rfl) _).trans e_i_limit) (ov_get 0 rfl rfl) (ov_get 1 rfl rfl) (ov_get 2 rfl rfl) (ov_get 3 rfl rfl) (ov_get 4 rfl rfl) (ov_get 0 rfl rfl) (ova_get 0 hN_A rfl) rr29 hrr29) (cwV 0 hts gi_X14_226 rfl rfl rfl hd_X14_go ⟨Nat.le_of_ble_eq_true rfl, Nat.le_of_ble_eq_true rfl⟩) shM.1 rfl rfl hl.1 (Nat.le_of_ble_eq_true rfl) dX14_readTold_237 ⟨Nat.le_refl _, Nat.le_refl _⟩ rfl (fun H locs hR hS => ?_)
                        have hR : RS G K (ov I [(1105, o, rr29.1), (1106, o, rr29.2.1), (1107, o, rr29.2.2.1), (1108, o, rr29.2.2.2.1), (1109, o, rr29.2.2.2.2.1), (1110, o, j224_i_fault), (1111, o, j224_i_at), (1113, o, rr6.2.2.2.2.2.2.2.2.1), (1184, o, i_planMany)]) (ov J [(1112, o, rr29.2.2.2.2.2)]) X (ova A [((o + 1), a_tape), ((o + 2), a_now), ((o + 4), u28)]) B Q H := hR.to (ov_merge (l := [(1105, o, rr16.1), (1106, o, rr16.2.1), (1107, o, rr16.2.2.1), (1108, o, rr16.2.2.2.1), (1109, o, rr16.2.2.2.2.1), (1110, o, j224_i_fault), (1111, o, j224_i_at), (1113, o, rr6.2.2.2.2.2.2.2.2.1), (1184, o, i_planMany)]) rfl [0, 1, 2, 3, 4] [(1105, o, rr29.1), (1106, o, rr29.2.1), (1107, o, rr29.2.2.1), (1108, o, rr29.2.2.2.1), (1109, o, rr29.2.2.2.2.1)] rfl rfl) (ov_merge (l := [(1112, o, rr16.2.2.2.2.2)]) rfl [0] [(1112, o, rr29.2.2.2.2.2)] rfl rfl) rfl rfl rfl rfl
                        exact hj240 rr29.1 rr29.2.1 rr29.2.2.1 rr29.2.2.2.1 rr29.2.2.2.2.1 j224_i_fault j224_i_at rr29.2.2.2.2.2 u28 hf _ _ _ hR hS (lv_sub hl [0] rfl)
                      have hj218 : ∀ (_ : Unit), f14_readTold_j218 i_planMany rr6 u15 rr16 = some out → ∀ (H : Heap) (locs : List Loc) (ls : Array Slot), RS G K (ov I [(1105, o, rr16.1), (1106, o, rr16.2.1), (1107, o, rr16.2.2.1), (1108, o, rr16.2.2.2.1), (1109, o, rr16.2.2.2.2.1), (1110, o, rr6.2.2.2.2.2.2.1), (1111, o, rr6.2.2.2.2.2.2.2.1), (1113, o, rr6.2.2.2.2.2.2.2.2.1), (1184, o, i_planMany)]) (ov J [(1112, o, rr16.2.2.2.2.2)]) X (ova A [((o + 1), a_tape), ((o + 2), a_now), ((o + 4), u15)]) B Q H → va_S (gA G) s.heap H locs → lv_has ls 3 [(0, .ref o)] → W p l e ({ frames := 4, cells := 0, slots := 0, locals := 92 } : Room) s m args below meth c H locs 0 0 Z (F0 m 218 ls []) := by
                        intro _ hf H locs ls hR hS hl
                        unfold f14_readTold_j218 at hf
                        refine lv_aload_n hx hb dX14_readTold_218 rfl (lv_at hl 0 rfl) ?_
                        refine lv_iconst (v := 2) hx hb dX14_readTold_219 li_2 ?_
                        obtain ⟨rr30, hrr30, hf⟩ := bind_s hf
                        refine g0_cV (rm := (0, 0)) (As := [.int (2 : Int32)]) (rest := []) ⟨hx, hb, hml, hown, hts⟩ hG hR hS (m14_bad l G K (ov I [(1105, o, rr16.1), (1106, o, rr16.2.1), (1107, o, rr16.2.2.1), (1108, o, rr16.2.2.2.1), (1109, o, rr16.2.2.2.2.1), (1110, o, rr6.2.2.2.2.2.2.1), (1111, o, rr6.2.2.2.2.2.2.2.1), (1113, o, rr6.2.2.2.2.2.2.2.2.1), (1184, o, i_planMany)]) (ov J [(1112, o, rr16.2.2.2.2.2)]) X (ova A [((o + 1), a_tape), ((o + 2), a_now), ((o + 4), u15)]) B Q o shM (2 : Int32) rr16.2.1 rr16.2.2.1 rr6.2.2.2.2.2.2.1 rr6.2.2.2.2.2.2.2.1 (ov_get 1 rfl rfl) (ov_get 2 rfl rfl) (ov_get 5 rfl rfl) (ov_get 6 rfl rfl) rr30 hrr30) (cwV 1 hts gi_X14_216 rfl rfl rfl hd_X14_bad ⟨Nat.le_of_ble_eq_true rfl, Nat.le_of_ble_eq_true rfl⟩) shM.1 rfl rfl hl.1 (Nat.le_of_ble_eq_true rfl) dX14_readTold_220 ⟨Nat.le_refl _, Nat.le_refl _⟩ rfl (fun H locs hR hS => ?_)
                        have hR : RS G K (ov I [(1105, o, rr16.1), (1106, o, rr16.2.1), (1107, o, rr16.2.2.1), (1108, o, rr16.2.2.2.1), (1109, o, rr16.2.2.2.2.1), (1110, o, rr30.2.1), (1111, o, rr30.2.2), (1113, o, rr6.2.2.2.2.2.2.2.2.1), (1184, o, i_planMany)]) (ov J [(1112, o, rr16.2.2.2.2.2)]) X (ova A [((o + 1), a_tape), ((o + 2), a_now), ((o + 4), u15)]) B Q H := hR.to (ov_merge (l := [(1105, o, rr16.1), (1106, o, rr16.2.1), (1107, o, rr16.2.2.1), (1108, o, rr16.2.2.2.1), (1109, o, rr16.2.2.2.2.1), (1110, o, rr6.2.2.2.2.2.2.1), (1111, o, rr6.2.2.2.2.2.2.2.1), (1113, o, rr6.2.2.2.2.2.2.2.2.1), (1184, o, i_planMany)]) rfl [5, 6] [(1110, o, rr30.2.1), (1111, o, rr30.2.2)] rfl rfl) rfl rfl rfl rfl rfl
                        obtain ⟨hz9, hf⟩ := gd_some hf
                        obtain rfl := some_i hf
                        exact hend _ _ _ _ dX14_readTold_223 (congrArg Value.int hz9) hR hS
                      refine lv_icmp_ne (tgt := 207) hx hb dX14_readTold_190 (by decide) (fun c31 => ?_) (fun c31 => ?_)
                      · have hf := ite_f c31 hf
                        refine lv_aload_n hx hb dX14_readTold_207 rfl (lv_at hl 0 rfl) ?_
                        refine n_geti (v := rr16.2.2.2.1) hx hb hts hown hG hR gFi_X14_187_11 shM.1 (ov_get 3 rfl rfl) dX14_readTold_208 ?_
                        refine lv_aload_n hx hb dX14_readTold_211 rfl (lv_at hl 0 rfl) ?_
                        obtain ⟨rr32, hrr32, hf⟩ := bind_s hf
                        refine g0_cV (rm := (0, 0)) (As := []) (rest := [.int rr16.2.2.2.1]) ⟨hx, hb, hml, hown, hts⟩ hG hR hS (m14_columns l G K (ov I [(1105, o, rr16.1), (1106, o, rr16.2.1), (1107, o, rr16.2.2.1), (1108, o, rr16.2.2.2.1), (1109, o, rr16.2.2.2.2.1), (1110, o, rr6.2.2.2.2.2.2.1), (1111, o, rr6.2.2.2.2.2.2.2.1), (1113, o, rr6.2.2.2.2.2.2.2.2.1), (1184, o, i_planMany)]) (ov J [(1112, o, rr16.2.2.2.2.2)]) X (ova A [((o + 1), a_tape), ((o + 2), a_now), ((o + 4), u15)]) B Q o shM a_now (ova_get 1 hN_A rfl) rr32 hrr32) (cwV 0 hts gi_X14_298 rfl rfl rfl hd_X14_columns ⟨Nat.le_of_ble_eq_true rfl, Nat.le_of_ble_eq_true rfl⟩) shM.1 rfl rfl hl.1 (Nat.le_of_ble_eq_true rfl) dX14_readTold_212 ⟨Nat.le_refl _, Nat.le_refl _⟩ rfl (fun H locs hR hS => ?_)
                        refine lv_icmp_lt (tgt := 224) hx hb dX14_readTold_215 (by decide) (fun c33 => ?_) (fun c33 => ?_)
                        · have hf := ite_t c33 hf
                          exact hj224 rr6.2.2.2.2.2.2.1 rr6.2.2.2.2.2.2.2.1 hf _ _ _ hR hS (lv_sub hl [0, 1] rfl)
                        · have hf := ite_f c33 hf
                          exact hj218 () hf _ _ _ hR hS (lv_sub hl [0] rfl)
                      · have hf := ite_t c31 hf
                        refine lv_aload_n hx hb dX14_readTold_193 rfl (lv_at hl 0 rfl) ?_
                        refine lv_aload_n hx hb dX14_readTold_194 rfl (lv_at hl 0 rfl) ?_
                        refine n_geti (v := rr16.2.2.2.1) hx hb hts hown hG hR gFi_X14_187_11 shM.1 (ov_get 3 rfl rfl) dX14_readTold_195 ?_
                        obtain ⟨rr34, hrr34, hf⟩ := bind_s hf
                        refine g0_cV (rm := (1, 22)) (As := [.int rr16.2.2.2.1]) (rest := []) ⟨hx, hb, hml, hown, hts⟩ hG hR hS (m14_isAim l G K (ov I [(1105, o, rr16.1), (1106, o, rr16.2.1), (1107, o, rr16.2.2.1), (1108, o, rr16.2.2.2.1), (1109, o, rr16.2.2.2.2.1), (1110, o, rr6.2.2.2.2.2.2.1), (1111, o, rr6.2.2.2.2.2.2.2.1), (1113, o, rr6.2.2.2.2.2.2.2.2.1), (1184, o, i_planMany)]) (ov J [(1112, o, rr16.2.2.2.2.2)]) X (ova A [((o + 1), a_tape), ((o + 2), a_now), ((o + 4), u15)]) B Q o shM rr16.2.2.2.1 a_now (ova_get 1 hN_A rfl) rr34 hrr34) (cwV 1 hts gi_X14_448 rfl rfl rfl hd_X14_isAim ⟨Nat.le_of_ble_eq_true rfl, Nat.le_of_ble_eq_true rfl⟩) shM.1 rfl rfl hl.1 (Nat.le_of_ble_eq_true rfl) dX14_readTold_198 ⟨Nat.le_refl _, Nat.le_refl _⟩ rfl (fun H locs hR hS => ?_)
                        refine lv_if_ne (tgt := 224) hx hb dX14_readTold_201 (by decide) (fun c35 => ?_) (fun c35 => ?_)
                        · have hf := ite_f c35 hf
                          exact hj224 rr6.2.2.2.2.2.2.1 rr6.2.2.2.2.2.2.2.1 hf _ _ _ hR hS (lv_sub hl [0, 1] rfl)
                        · have hf := ite_t c35 hf
                          refine lv_goto (tgt := 218) hx hb dX14_readTold_204 (by decide) ?_
                          exact hj218 () hf _ _ _ hR hS (lv_sub hl [0] rfl)
                    · have hf := ite_f c25 hf
                      refine lv_aload_n hx hb dX14_readTold_181 rfl (lv_at hl 0 rfl) ?_
                      refine lv_iconst (v := 1) hx hb dX14_readTold_182 li_1 ?_
                      obtain ⟨rr36, hrr36, hf⟩ := bind_s hf
                      refine g0_cV (rm := (0, 0)) (As := [.int (1 : Int32)]) (rest := []) ⟨hx, hb, hml, hown, hts⟩ hG hR hS (m14_bad l G K (ov I [(1105, o, rr16.1), (1106, o, rr16.2.1), (1107, o, rr16.2.2.1), (1108, o, rr16.2.2.2.1), (1109, o, rr16.2.2.2.2.1), (1110, o, rr6.2.2.2.2.2.2.1), (1111, o, rr6.2.2.2.2.2.2.2.1), (1113, o, rr6.2.2.2.2.2.2.2.2.1), (1184, o, i_planMany)]) (ov J [(1112, o, rr16.2.2.2.2.2)]) X (ova A [((o + 1), a_tape), ((o + 2), a_now), ((o + 4), u15)]) B Q o shM (1 : Int32) rr16.2.1 rr16.2.2.1 rr6.2.2.2.2.2.2.1 rr6.2.2.2.2.2.2.2.1 (ov_get 1 rfl rfl) (ov_get 2 rfl rfl) (ov_get 5 rfl rfl) (ov_get 6 rfl rfl) rr36 hrr36) (cwV 1 hts gi_X14_216 rfl rfl rfl hd_X14_bad ⟨Nat.le_of_ble_eq_true rfl, Nat.le_of_ble_eq_true rfl⟩) shM.1 rfl rfl hl.1 (Nat.le_of_ble_eq_true rfl) dX14_readTold_183 ⟨Nat.le_refl _, Nat.le_refl _⟩ rfl (fun H locs hR hS => ?_)
                      have hR : RS G K (ov I [(1105, o, rr16.1), (1106, o, rr16.2.1), (1107, o, rr16.2.2.1), (1108, o, rr16.2.2.2.1), (1109, o, rr16.2.2.2.2.1), (1110, o, rr36.2.1), (1111, o, rr36.2.2), (1113, o, rr6.2.2.2.2.2.2.2.2.1), (1184, o, i_planMany)]) (ov J [(1112, o, rr16.2.2.2.2.2)]) X (ova A [((o + 1), a_tape), ((o + 2), a_now), ((o + 4), u15)]) B Q H := hR.to (ov_merge (l := [(1105, o, rr16.1), (1106, o, rr16.2.1), (1107, o, rr16.2.2.1), (1108, o, rr16.2.2.2.1), (1109, o, rr16.2.2.2.2.1), (1110, o, rr6.2.2.2.2.2.2.1), (1111, o, rr6.2.2.2.2.2.2.2.1), (1113, o, rr6.2.2.2.2.2.2.2.2.1), (1184, o, i_planMany)]) rfl [5, 6] [(1110, o, rr36.2.1), (1111, o, rr36.2.2)] rfl rfl) rfl rfl rfl rfl rfl
                      obtain ⟨hz9, hf⟩ := gd_some hf
                      obtain rfl := some_i hf
                      exact hend _ _ _ _ dX14_readTold_186 (congrArg Value.int hz9) hR hS
                · have hf := ite_t c23 hf
                  exact hj146 rr16.1 rr16.2.1 rr16.2.2.1 rr16.2.2.2.1 rr16.2.2.2.2.1 rr6.2.2.2.2.2.2.1 rr6.2.2.2.2.2.2.2.1 rr16.2.2.2.2.2 u15 hf _ _ _ hR hS (lv_sub hl [0, 1, 2] rfl)
            · have hf := ite_f c11 hf
              refine lv_aload_n hx hb dX14_readTold_112 rfl (lv_at hl 0 rfl) ?_
              refine lv_iconst (v := 1) hx hb dX14_readTold_113 li_1 ?_
              obtain ⟨rr37, hrr37, hf⟩ := bind_s hf
              refine g0_cV (rm := (0, 0)) (As := [.int (1 : Int32)]) (rest := []) ⟨hx, hb, hml, hown, hts⟩ hG hR hS (m14_bad l G K (ov I [(1105, o, rr6.2.1), (1106, o, rr6.2.2.1), (1107, o, rr6.2.2.2.1), (1108, o, rr6.2.2.2.2.1), (1109, o, rr6.2.2.2.2.2.1), (1110, o, rr6.2.2.2.2.2.2.1), (1111, o, rr6.2.2.2.2.2.2.2.1), (1113, o, rr6.2.2.2.2.2.2.2.2.1), (1184, o, i_planMany)]) (ov J [(1112, o, rr6.2.2.2.2.2.2.2.2.2)]) X (ova A [((o + 1), a_tape), ((o + 2), a_now), ((o + 4), u9)]) B Q o shM (1 : Int32) rr6.2.2.1 rr6.2.2.2.1 rr6.2.2.2.2.2.2.1 rr6.2.2.2.2.2.2.2.1 (ov_get 1 rfl rfl) (ov_get 2 rfl rfl) (ov_get 5 rfl rfl) (ov_get 6 rfl rfl) rr37 hrr37) (cwV 1 hts gi_X14_216 rfl rfl rfl hd_X14_bad ⟨Nat.le_of_ble_eq_true rfl, Nat.le_of_ble_eq_true rfl⟩) shM.1 rfl rfl hl.1 (Nat.le_of_ble_eq_true rfl) dX14_readTold_114 ⟨Nat.le_refl _, Nat.le_refl _⟩ rfl (fun H locs hR hS => ?_)
              have hR : RS G K (ov I [(1105, o, rr6.2.1), (1106, o, rr6.2.2.1), (1107, o, rr6.2.2.2.1), (1108, o, rr6.2.2.2.2.1), (1109, o, rr6.2.2.2.2.2.1), (1110, o, rr37.2.1), (1111, o, rr37.2.2), (1113, o, rr6.2.2.2.2.2.2.2.2.1), (1184, o, i_planMany)]) (ov J [(1112, o, rr6.2.2.2.2.2.2.2.2.2)]) X (ova A [((o + 1), a_tape), ((o + 2), a_now), ((o + 4), u9)]) B Q H := hR.to (ov_merge (l := [(1105, o, rr6.2.1), (1106, o, rr6.2.2.1), (1107, o, rr6.2.2.2.1), (1108, o, rr6.2.2.2.2.1), (1109, o, rr6.2.2.2.2.2.1), (1110, o, rr6.2.2.2.2.2.2.1), (1111, o, rr6.2.2.2.2.2.2.2.1), (1113, o, rr6.2.2.2.2.2.2.2.2.1), (1184, o, i_planMany)]) rfl [5, 6] [(1110, o, rr37.2.1), (1111, o, rr37.2.2)] rfl rfl) rfl rfl rfl rfl rfl
              obtain ⟨hz9, hf⟩ := gd_some hf
              obtain rfl := some_i hf
              exact hend _ _ _ _ dX14_readTold_117 (congrArg Value.int hz9) hR hS
          refine whl_walk (P := fun (s10 : Int32) => ∀ (H : Heap) (locs : List Loc) (ls : Array Slot), RS G K (ov I [(1105, o, rr6.2.1), (1106, o, rr6.2.2.1), (1107, o, rr6.2.2.2.1), (1108, o, rr6.2.2.2.2.1), (1109, o, rr6.2.2.2.2.2.1), (1110, o, rr6.2.2.2.2.2.2.1), (1111, o, rr6.2.2.2.2.2.2.2.1), (1113, o, rr6.2.2.2.2.2.2.2.2.1), (1184, o, i_planMany)]) (ov J [(1112, o, rr6.2.2.2.2.2.2.2.2.2)]) X (ova A [((o + 1), a_tape), ((o + 2), a_now), ((o + 4), u9)]) B Q H → va_S (gA G) s.heap H locs → lv_has ls 3 [(0, .ref o), (1, .int v4), (2, .int s10)] → W p l e ({ frames := 4, cells := 0, slots := 0, locals := 92 } : Room) s m args below meth c H locs 0 0 Z (F0 m 86 ls [])) (r := rl10) ?_ FU _ hw10 _ _ _ hR hS (lv_sub hl [1, 2, 0] rfl)
          clear hR hS hl hf
          intro s10 o10 hf hk10 H locs ls hR hS hl
          obtain ⟨w10_2, rfl⟩ : ∃ z, z = s10 := ⟨_, rfl⟩
          have hf : f14_readTold_s10 rr6 w10_2 = some o10 := hf
          have hR : RS G K (ov I [(1105, o, rr6.2.1), (1106, o, rr6.2.2.1), (1107, o, rr6.2.2.2.1), (1108, o, rr6.2.2.2.2.1), (1109, o, rr6.2.2.2.2.2.1), (1110, o, rr6.2.2.2.2.2.2.1), (1111, o, rr6.2.2.2.2.2.2.2.1), (1113, o, rr6.2.2.2.2.2.2.2.2.1), (1184, o, i_planMany)]) (ov J [(1112, o, rr6.2.2.2.2.2.2.2.2.2)]) X (ova A [((o + 1), a_tape), ((o + 2), a_now), ((o + 4), u9)]) B Q H := hR
          have hl : lv_has ls 3 [(0, .ref o), (1, .int v4), (2, .int w10_2)] := hl
          unfold f14_readTold_s10 at hf
          refine lv_iload_n hx hb dX14_readTold_86 rfl (lv_at hl 2 rfl) ?_
          refine lv_bipush (v := 19) hx hb dX14_readTold_87 lb_19 ?_
          refine lv_icmp_gt (tgt := 106) hx hb dX14_readTold_89 (by decide) (fun c38 => ?_) (fun c38 => ?_)
          · have hf := ite_t c38 hf
            obtain rfl := some_i hf
            replace hk10 : _ = rl10 := hk10
            subst hk10
            exact hx10_0 w10_2 hfo10 _ _ _ hR hS (lv_sub hl [0, 1, 2] rfl)
          · have hf := ite_f c38 hf
            refine lv_aload_n hx hb dX14_readTold_92 rfl (lv_at hl 0 rfl) ?_
            refine lv_iload_n hx hb dX14_readTold_93 rfl (lv_at hl 2 rfl) ?_
            obtain ⟨rr39, hrr39, hf⟩ := bind_s hf
            refine g0_cV (rm := (2, 46)) (As := [.int w10_2]) (rest := []) ⟨hx, hb, hml, hown, hts⟩ hG hR hS (m14_isWord l G K (ov I [(1105, o, rr6.2.1), (1106, o, rr6.2.2.1), (1107, o, rr6.2.2.2.1), (1108, o, rr6.2.2.2.2.1), (1109, o, rr6.2.2.2.2.2.1), (1110, o, rr6.2.2.2.2.2.2.1), (1111, o, rr6.2.2.2.2.2.2.2.1), (1113, o, rr6.2.2.2.2.2.2.2.2.1), (1184, o, i_planMany)]) (ov J [(1112, o, rr6.2.2.2.2.2.2.2.2.2)]) X (ova A [((o + 1), a_tape), ((o + 2), a_now), ((o + 4), u9)]) B Q o shM w10_2 rr6.2.2.2.1 rr6.2.2.2.2.2.2.2.2.2 (ov_get 2 rfl rfl) (ov_get 0 rfl rfl) rr39 hrr39) (cwV 1 hts gi_X14_264 rfl rfl rfl hd_X14_isWord ⟨Nat.le_of_ble_eq_true rfl, Nat.le_of_ble_eq_true rfl⟩) shM.1 rfl rfl hl.1 (Nat.le_of_ble_eq_true rfl) dX14_readTold_94 ⟨Nat.le_refl _, Nat.le_refl _⟩ rfl (fun H locs hR hS => ?_)
            refine lv_if_ne (tgt := 106) hx hb dX14_readTold_97 (by decide) (fun c40 => ?_) (fun c40 => ?_)
            · have hf := ite_f c40 hf
              obtain rfl := some_i hf
              replace hk10 : _ = rl10 := hk10
              subst hk10
              exact hx10_0 w10_2 hfo10 _ _ _ hR hS (lv_sub hl [0, 1, 2] rfl)
            · have hf := ite_t c40 hf
              obtain ⟨v41, ev41, hf⟩ := lt_some hf
              refine lv_iinc (k := 2) (v := v41) (lv' := [(2, .int v41), (0, .ref o), (1, .int v4)]) hx hb dX14_readTold_100 hl rfl (by rw [ev41]; rfl) (by decide) rfl (fun ls hl => ?_)
              refine lv_goto (tgt := 86) hx hb dX14_readTold_103 (by decide) ?_
              obtain rfl := some_i hf
              exact hk10 _ _ _ hR hS (lv_sub hl [1, 2, 0] rfl)
        · have hf := ite_t c7 hf
          refine lv_iconst (v := 0) hx hb dX14_readTold_71 li_0 ?_
          obtain rfl := some_i hf
          exact hend _ _ _ _ dX14_readTold_72 nz_0 hR hS
      refine lv_if_ne (tgt := 54) hx hb dX14_readTold_47 (by decide) (fun c42 => ?_) (fun c42 => ?_)
      · have hf := ite_f c42 hf
        refine lv_aload_n hx hb dX14_readTold_54 rfl (lv_at hl 1 rfl) ?_
        refine g_getr (b := (o + 4)) hx hb hts hown hG hR gFx_X14_19_11 shM.1 ((shM.2 3 _ rfl).2) dX14_readTold_55 ?_
        refine lv_iload_n hx hb dX14_readTold_58 rfl (lv_at hl 0 rfl) ?_
        refine lv_bipush (v := 16) hx hb dX14_readTold_59 lb_16 ?_
        obtain ⟨v43, ev43, hf⟩ := lt_some hf
        refine n_isub hx hb ev43 dX14_readTold_61 ?_
        obtain ⟨c44, hf⟩ := gd_some hf
        obtain ⟨v45, ev45, hf⟩ := lt_some hf
        refine n_iald (x := a_plan) hx hb hG hR k_a_plan c44 (ova_get 2 hN_A rfl) ev45 dX14_readTold_62 ?_
        exact hj63 v45 hf _ _ _ hR hS (lv_sub hl [1, 0] rfl)
      · have hf := ite_t c42 hf
        refine lv_iconst (v := 0) hx hb dX14_readTold_50 li_0 ?_
        refine lv_goto (tgt := 63) hx hb dX14_readTold_51 (by decide) ?_
        exact hj63 (0 : Int32) hf _ _ _ hR hS (lv_sub hl [1, 0] rfl)
    · have hf := ite_t c3 hf
      refine lv_aload_n hx hb dX14_readTold_24 rfl (lv_at hl 0 rfl) ?_
      refine lv_iconst (v := 4) hx hb dX14_readTold_25 li_4 ?_
      obtain ⟨rr46, hrr46, hf⟩ := bind_s hf
      refine g0_cV (rm := (0, 0)) (As := [.int (4 : Int32)]) (rest := []) ⟨hx, hb, hml, hown, hts⟩ hG hR hS (m14_bad l G K (ov I [(1105, o, i_to), (1106, o, i_from), (1107, o, i_kind), (1108, o, i_number), (1109, o, i_sign), (1110, o, i_fault), (1111, o, i_at), (1113, o, i_told), (1184, o, i_planMany)]) (ov J [(1112, o, j_word)]) X (ova A [((o + 1), a_tape), ((o + 2), a_now), ((o + 4), a_plan)]) B Q o shM (4 : Int32) i_from i_kind i_fault i_at (ov_get 1 rfl rfl) (ov_get 2 rfl rfl) (ov_get 5 rfl rfl) (ov_get 6 rfl rfl) rr46 hrr46) (cwV 1 hts gi_X14_216 rfl rfl rfl hd_X14_bad ⟨Nat.le_of_ble_eq_true rfl, Nat.le_of_ble_eq_true rfl⟩) shM.1 rfl rfl hl.1 (Nat.le_of_ble_eq_true rfl) dX14_readTold_26 ⟨Nat.le_refl _, Nat.le_refl _⟩ rfl (fun H locs hR hS => ?_)
      have hR : RS G K (ov I [(1105, o, i_to), (1106, o, i_from), (1107, o, i_kind), (1108, o, i_number), (1109, o, i_sign), (1110, o, rr46.2.1), (1111, o, rr46.2.2), (1113, o, i_told), (1184, o, i_planMany)]) (ov J [(1112, o, j_word)]) X (ova A [((o + 1), a_tape), ((o + 2), a_now), ((o + 4), a_plan)]) B Q H := hR.to (ov_merge (l := [(1105, o, i_to), (1106, o, i_from), (1107, o, i_kind), (1108, o, i_number), (1109, o, i_sign), (1110, o, i_fault), (1111, o, i_at), (1113, o, i_told), (1184, o, i_planMany)]) rfl [5, 6] [(1110, o, rr46.2.1), (1111, o, rr46.2.2)] rfl rfl) rfl rfl rfl rfl rfl
      obtain ⟨hz9, hf⟩ := gd_some hf
      obtain rfl := some_i hf
      exact hend _ _ _ _ dX14_readTold_29 (congrArg Value.int hz9) hR hS
  · have hf := ite_t c2 hf
    refine lv_aload_n hx hb dX14_readTold_9 rfl (lv_at hl 0 rfl) ?_
    refine lv_iconst (v := 1) hx hb dX14_readTold_10 li_1 ?_
    obtain ⟨rr47, hrr47, hf⟩ := bind_s hf
    refine g0_cV (rm := (0, 0)) (As := [.int (1 : Int32)]) (rest := []) ⟨hx, hb, hml, hown, hts⟩ hG hR hS (m14_bad l G K (ov I [(1105, o, i_to), (1106, o, i_from), (1107, o, i_kind), (1108, o, i_number), (1109, o, i_sign), (1110, o, i_fault), (1111, o, i_at), (1113, o, i_told), (1184, o, i_planMany)]) (ov J [(1112, o, j_word)]) X (ova A [((o + 1), a_tape), ((o + 2), a_now), ((o + 4), a_plan)]) B Q o shM (1 : Int32) i_from i_kind i_fault i_at (ov_get 1 rfl rfl) (ov_get 2 rfl rfl) (ov_get 5 rfl rfl) (ov_get 6 rfl rfl) rr47 hrr47) (cwV 1 hts gi_X14_216 rfl rfl rfl hd_X14_bad ⟨Nat.le_of_ble_eq_true rfl, Nat.le_of_ble_eq_true rfl⟩) shM.1 rfl rfl hl.1 (Nat.le_of_ble_eq_true rfl) dX14_readTold_11 ⟨Nat.le_refl _, Nat.le_refl _⟩ rfl (fun H locs hR hS => ?_)
    have hR : RS G K (ov I [(1105, o, i_to), (1106, o, i_from), (1107, o, i_kind), (1108, o, i_number), (1109, o, i_sign), (1110, o, rr47.2.1), (1111, o, rr47.2.2), (1113, o, i_told), (1184, o, i_planMany)]) (ov J [(1112, o, j_word)]) X (ova A [((o + 1), a_tape), ((o + 2), a_now), ((o + 4), a_plan)]) B Q H := hR.to (ov_merge (l := [(1105, o, i_to), (1106, o, i_from), (1107, o, i_kind), (1108, o, i_number), (1109, o, i_sign), (1110, o, i_fault), (1111, o, i_at), (1113, o, i_told), (1184, o, i_planMany)]) rfl [5, 6] [(1110, o, rr47.2.1), (1111, o, rr47.2.2)] rfl rfl) rfl rfl rfl rfl rfl
    obtain ⟨hz9, hf⟩ := gd_some hf
    obtain rfl := some_i hf
    exact hend _ _ _ _ dX14_readTold_14 (congrArg Value.int hz9) hR hS
noncomputable def f14_readLine_j90 (j74_i_told : Int32) (j74_i_had : Int32) (j74_a_read : Nat → Int32) (j74_b_readName : Nat → Int64) (j90_i_to : Int32) (j90_i_from : Int32) (j90_i_kind : Int32) (j90_i_number : Int32) (j90_i_sign : Int32) (j90_i_fault : Int32) (j90_i_at : Int32) (j90_j_word : Int64) : Option (Int32 × Int32 × Int32 × Int32 × Int32 × Int32 × Int32 × Int32 × Int32 × Int32 × Int64 × (Nat → Int32) × (Nat → Int64)) :=
  some ((0 : Int32), j90_i_to, j90_i_from, j90_i_kind, j90_i_number, j90_i_sign, j90_i_fault, j90_i_at, j74_i_told, j74_i_had, j90_j_word, j74_a_read, j74_b_readName)

noncomputable def f14_readLine_j74 (i_size : Int32) (i_limit : Int32) (a_tape : Nat → Int32) (j74_s0 : Int32) (j74_i_to : Int32) (j74_i_from : Int32) (j74_i_kind : Int32) (j74_i_number : Int32) (j74_i_sign : Int32) (j74_i_fault : Int32) (j74_i_at : Int32) (j74_i_told : Int32) (j74_i_had : Int32) (j74_j_word : Int64) (j74_a_read : Nat → Int32) (j74_b_readName : Nat → Int64) : Option (Int32 × Int32 × Int32 × Int32 × Int32 × Int32 × Int32 × Int32 × Int32 × Int32 × Int64 × (Nat → Int32) × (Nat → Int64)) :=
  if j74_s0 = 0 then
    f14_readLine_j90 j74_i_told j74_i_had j74_a_read j74_b_readName j74_i_to j74_i_from j74_i_kind j74_i_number j74_i_sign j74_i_fault j74_i_at j74_j_word
  else
    (f14_readEnd i_size i_limit j74_i_to j74_i_from j74_i_kind j74_i_number j74_i_sign j74_i_fault j74_i_at j74_j_word a_tape).bind fun rr4 =>
    if rr4.1 = 0 then
      f14_readLine_j90 j74_i_told j74_i_had j74_a_read j74_b_readName rr4.2.1 rr4.2.2.1 rr4.2.2.2.1 rr4.2.2.2.2.1 rr4.2.2.2.2.2.1 rr4.2.2.2.2.2.2.1 rr4.2.2.2.2.2.2.2.1 rr4.2.2.2.2.2.2.2.2
    else
      some ((1 : Int32), rr4.2.1, rr4.2.2.1, rr4.2.2.2.1, rr4.2.2.2.2.1, rr4.2.2.2.2.2.1, rr4.2.2.2.2.2.2.1, rr4.2.2.2.2.2.2.2.1, j74_i_told, j74_i_had, rr4.2.2.2.2.2.2.2.2, j74_a_read, j74_b_readName)

noncomputable def f14_readLine_e1_0 (i_size : Int32) (i_limit : Int32) (i_to : Int32) (i_from : Int32) (i_kind : Int32) (i_number : Int32) (i_sign : Int32) (i_fault : Int32) (i_at : Int32) (i_told : Int32) (i_had : Int32) (j_word : Int64) (a_tape : Nat → Int32) (a_read : Nat → Int32) (b_readName : Nat → Int64) (x1_0 : Int32) : Option (Int32 × Int32 × Int32 × Int32 × Int32 × Int32 × Int32 × Int32 × Int32 × Int32 × Int64 × (Nat → Int32) × (Nat → Int64)) :=
  if x1_0 ≤ (9 : Int32) then
    if x1_0 = 0 then
      (f14_readMan i_size i_limit i_to i_from i_kind i_number i_sign i_fault i_at i_told j_word a_tape a_read b_readName).bind fun rr12 =>
      f14_readLine_j74 i_size i_limit a_tape rr12.1 rr12.2.1 rr12.2.2.1 rr12.2.2.2.1 rr12.2.2.2.2.1 rr12.2.2.2.2.2.1 rr12.2.2.2.2.2.2.1 rr12.2.2.2.2.2.2.2.1 rr12.2.2.2.2.2.2.2.2.1 i_had rr12.2.2.2.2.2.2.2.2.2.1 rr12.2.2.2.2.2.2.2.2.2.2.1 rr12.2.2.2.2.2.2.2.2.2.2.2
    else
      if x1_0 = (1 : Int32) then
        (f14_readCells i_size i_limit i_to i_from i_kind i_number i_sign i_fault i_at j_word a_tape a_read).bind fun rr11 =>
        f14_readLine_j74 i_size i_limit a_tape rr11.1 rr11.2.1 rr11.2.2.1 rr11.2.2.2.1 rr11.2.2.2.2.1 rr11.2.2.2.2.2.1 rr11.2.2.2.2.2.2.1 rr11.2.2.2.2.2.2.2.1 i_told i_had rr11.2.2.2.2.2.2.2.2.1 rr11.2.2.2.2.2.2.2.2.2 b_readName
      else
        if x1_0 = (2 : Int32) then
          (f14_readBurn i_size i_limit i_to i_from i_kind i_number i_sign i_fault i_at i_told j_word a_tape a_read).bind fun rr10 =>
          f14_readLine_j74 i_size i_limit a_tape rr10.1 rr10.2.1 rr10.2.2.1 rr10.2.2.2.1 rr10.2.2.2.2.1 rr10.2.2.2.2.2.1 rr10.2.2.2.2.2.2.1 rr10.2.2.2.2.2.2.2.1 rr10.2.2.2.2.2.2.2.2.1 i_had rr10.2.2.2.2.2.2.2.2.2.1 rr10.2.2.2.2.2.2.2.2.2.2 b_readName
        else
          (f14_readOnce x1_0 i_size i_limit i_to i_from i_kind i_number i_sign i_fault i_at i_told i_had j_word a_tape a_read).bind fun rr9 =>
          f14_readLine_j74 i_size i_limit a_tape rr9.1 rr9.2.1 rr9.2.2.1 rr9.2.2.2.1 rr9.2.2.2.2.1 rr9.2.2.2.2.2.1 rr9.2.2.2.2.2.2.1 rr9.2.2.2.2.2.2.2.1 rr9.2.2.2.2.2.2.2.2.1 rr9.2.2.2.2.2.2.2.2.2.1 rr9.2.2.2.2.2.2.2.2.2.2.1 rr9.2.2.2.2.2.2.2.2.2.2.2 b_readName
  else
    (f14_bad (1 : Int32) i_from i_kind i_fault i_at).bind fun rr13 =>
    gd (rr13.1 &&& 1 = rr13.1) <|
    some (rr13.1, i_to, i_from, i_kind, i_number, i_sign, rr13.2.1, rr13.2.2, i_told, i_had, j_word, a_read, b_readName)

noncomputable def f14_readLine_s1 (i_kind : Int32) (j_word : Int64) (w1_1 : Int32) : Option ((Int32) ⊕ (Int32)) :=
  if (9 : Int32) < w1_1 then
    some (.inr w1_1)
  else
    (f14_isWord w1_1 i_kind j_word).bind fun rr15 =>
    if rr15 = 0 then
      lt (w1_1 + (1 : Int32)) fun v17 =>
      some (.inl v17)
    else
      some (.inr w1_1)

noncomputable def f14_readLine (i_size : Int32) (i_limit : Int32) (i_to : Int32) (i_from : Int32) (i_kind : Int32) (i_number : Int32) (i_sign : Int32) (i_fault : Int32) (i_at : Int32) (i_told : Int32) (i_had : Int32) (j_word : Int64) (a_tape : Nat → Int32) (a_read : Nat → Int32) (b_readName : Nat → Int64) : Option (Int32 × Int32 × Int32 × Int32 × Int32 × Int32 × Int32 × Int32 × Int32 × Int32 × Int64 × (Nat → Int32) × (Nat → Int64)) :=
  (whl (fun (s1 : Int32) => f14_readLine_s1 i_kind j_word s1) FU (0 : Int32)).bind fun rl1 =>
  f14_readLine_e1_0 i_size i_limit i_to i_from i_kind i_number i_sign i_fault i_at i_told i_had j_word a_tape a_read b_readName rl1
set_option maxHeartbeats 4000000 in
theorem m14_readLine (l : Launch) (G : gG) (K : gK) (I : gI) (J : gJ) (X : gX) (A : gI) (B : gJ) (Q : gX) (o : Nat) (shM : Sh K X o 11 rows11)  (i_size : Int32) (i_limit : Int32) (i_to : Int32) (i_from : Int32) (i_kind : Int32) (i_number : Int32) (i_sign : Int32) (i_fault : Int32) (i_at : Int32) (i_told : Int32) (i_had : Int32) (j_word : Int64) (a_tape : Nat → Int32) (a_read : Nat → Int32) (b_readName : Nat → Int64) (e_i_size : I 1103 o = i_size) (e_i_limit : I 1104 o = i_limit) (e_i_to : I 1105 o = i_to) (e_i_from : I 1106 o = i_from) (e_i_kind : I 1107 o = i_kind) (e_i_number : I 1108 o = i_number) (e_i_sign : I 1109 o = i_sign) (e_i_fault : I 1110 o = i_fault) (e_i_at : I 1111 o = i_at) (e_i_told : I 1113 o = i_told) (e_i_had : I 1123 o = i_had) (e_j_word : J 1112 o = j_word) (e_a_tape : A (o + 1) = a_tape) (e_a_read : A (o + 3) = a_read) (e_b_readName : B (o + 7) = b_readName) (out : Int32 × Int32 × Int32 × Int32 × Int32 × Int32 × Int32 × Int32 × Int32 × Int32 × Int64 × (Nat → Int32) × (Nat → Int64)) (hf : f14_readLine i_size i_limit i_to i_from i_kind i_number i_sign i_fault i_at i_told i_had j_word a_tape a_read b_readName = some out) : GMet l yX14_readLine cX14_readLine 3 (some .boolean) (5) (112) G [.ref o] K I J X A B Q (some (.int out.1)) K (ov I [(1105, o, out.2.1), (1106, o, out.2.2.1), (1107, o, out.2.2.2.1), (1108, o, out.2.2.2.2.1), (1109, o, out.2.2.2.2.2.1), (1110, o, out.2.2.2.2.2.2.1), (1111, o, out.2.2.2.2.2.2.2.1), (1113, o, out.2.2.2.2.2.2.2.2.1), (1123, o, out.2.2.2.2.2.2.2.2.2.1)]) (ov J [(1112, o, out.2.2.2.2.2.2.2.2.2.2.1)]) X (ova A [((o + 1), a_tape), ((o + 3), out.2.2.2.2.2.2.2.2.2.2.2.1)]) (ova B [((o + 7), out.2.2.2.2.2.2.2.2.2.2.2.2)]) Q 0 0 := by
  refine GMet.of (y := yX14_readLine) rfl (Nat.le_of_ble_eq_true rfl) rfl ?_
  intro p e s m below meth c ls hx hb hr hml hlocks hts hown hname hG hR hl
  have hown : s.vm.findClass RX14 = some m.cls := hown
  have k_a_tape : K (o + 1) = some (.inr (0, 740)) := (shM.2 0 _ rfl).1
  have k_a_read : K (o + 3) = some (.inr (0, 200)) := (shM.2 2 _ rfl).1
  have k_b_readName : K (o + 7) = some (.inr (3, 12)) := (shM.2 6 _ rfl).1
  have hN_A : nda [(o + 1), (o + 3)] := nd_off o [1, 3] rfl
  have hN_B : nda [(o + 7)] := nd_off o [7] rfl
  have hR : RS G K (ov I [(1105, o, i_to), (1106, o, i_from), (1107, o, i_kind), (1108, o, i_number), (1109, o, i_sign), (1110, o, i_fault), (1111, o, i_at), (1113, o, i_told), (1123, o, i_had)]) (ov J [(1112, o, j_word)]) X (ova A [((o + 1), a_tape), ((o + 3), a_read)]) (ova B [((o + 7), b_readName)]) Q s.heap := hR.to (Eq.symm (ov_sc e_i_to (ov_sc e_i_from (ov_sc e_i_kind (ov_sc e_i_number (ov_sc e_i_sign (ov_sc e_i_fault (ov_sc e_i_at (ov_sc e_i_told (ov_sc e_i_had rfl)))))))))) (Eq.symm (ov_sc e_j_word rfl)) rfl (Eq.symm (ova_sc e_a_tape (ova_sc e_a_read rfl))) (Eq.symm (ova_sc e_b_readName rfl)) rfl
  have hS : va_S (gA G) s.heap s.heap [] := va_S.rf
  have hend : ∀ (pc : Nat) (H : Heap) (locs : List Loc) (ls : Array Slot), decode cX14_readLine pc = .ok (.ireturn, 1) → narrow .boolean (.int out.1) = .int out.1 → RS G K (ov I [(1105, o, out.2.1), (1106, o, out.2.2.1), (1107, o, out.2.2.2.1), (1108, o, out.2.2.2.2.1), (1109, o, out.2.2.2.2.2.1), (1110, o, out.2.2.2.2.2.2.1), (1111, o, out.2.2.2.2.2.2.2.1), (1113, o, out.2.2.2.2.2.2.2.2.1), (1123, o, out.2.2.2.2.2.2.2.2.2.1)]) (ov J [(1112, o, out.2.2.2.2.2.2.2.2.2.2.1)]) X (ova A [((o + 1), a_tape), ((o + 3), out.2.2.2.2.2.2.2.2.2.2.2.1)]) (ova B [((o + 7), out.2.2.2.2.2.2.2.2.2.2.2.2)]) Q H → va_S (gA G) s.heap H locs → W p l e ({ frames := 5, cells := 0, slots := 0, locals := 112 } : Room) s m ([.ref o] : List Value).toArray below meth c H locs 0 0 (MQ below (gQ G (some (.int out.1)) K (ov I [(1105, o, out.2.1), (1106, o, out.2.2.1), (1107, o, out.2.2.2.1), (1108, o, out.2.2.2.2.1), (1109, o, out.2.2.2.2.2.1), (1110, o, out.2.2.2.2.2.2.1), (1111, o, out.2.2.2.2.2.2.2.1), (1113, o, out.2.2.2.2.2.2.2.2.1), (1123, o, out.2.2.2.2.2.2.2.2.2.1)]) (ov J [(1112, o, out.2.2.2.2.2.2.2.2.2.2.1)]) X (ova A [((o + 1), a_tape), ((o + 3), out.2.2.2.2.2.2.2.2.2.2.2.1)]) (ova B [((o + 7), out.2.2.2.2.2.2.2.2.2.2.2.2)]) Q) ([.ref o] : List Value).toArray s 0 0 (gA G)) (F0 m pc ls [.int out.1]) := fun pc H locs ls hd hz hR hS => g_zret hx hb hr hlocks hz hG hR hS rfl hd
  generalize MQ below (gQ G (some (.int out.1)) K (ov I [(1105, o, out.2.1), (1106, o, out.2.2.1), (1107, o, out.2.2.2.1), (1108, o, out.2.2.2.2.1), (1109, o, out.2.2.2.2.2.1), (1110, o, out.2.2.2.2.2.2.1), (1111, o, out.2.2.2.2.2.2.2.1), (1113, o, out.2.2.2.2.2.2.2.2.1), (1123, o, out.2.2.2.2.2.2.2.2.2.1)]) (ov J [(1112, o, out.2.2.2.2.2.2.2.2.2.2.1)]) X (ova A [((o + 1), a_tape), ((o + 3), out.2.2.2.2.2.2.2.2.2.2.2.1)]) (ova B [((o + 7), out.2.2.2.2.2.2.2.2.2.2.2.2)]) Q) ([.ref o] : List Value).toArray s 0 0 (gA G) = Z at hend ⊢
  generalize ([.ref o] : List Value).toArray = args at hts hend ⊢
  unfold f14_readLine at hf
  refine lv_iconst (v := 0) hx hb dX14_readLine_0 li_0 ?_
  refine lv_istore_n (lv' := [(1, .int (0 : Int32)), (0, .ref o)]) hx hb dX14_readLine_1 rfl hl (by decide) rfl (fun ls hl => ?_)
  obtain ⟨rl1, hw1, hfo1⟩ := bind_s hf
  have hx1_0 : ∀ (x1_0 : Int32), f14_readLine_e1_0 i_size i_limit i_to i_from i_kind i_number i_sign i_fault i_at i_told i_had j_word a_tape a_read b_readName x1_0 = some out → ∀ (H : Heap) (locs : List Loc) (ls : Array Slot), RS G K (ov I [(1105, o, i_to), (1106, o, i_from), (1107, o, i_kind), (1108, o, i_number), (1109, o, i_sign), (1110, o, i_fault), (1111, o, i_at), (1113, o, i_told), (1123, o, i_had)]) (ov J [(1112, o, j_word)]) X (ova A [((o + 1), a_tape), ((o + 3), a_read)]) (ova B [((o + 7), b_readName)]) Q H → va_S (gA G) s.heap H locs → lv_has ls 3 [(0, .ref o), (1, .int x1_0)] → W p l e ({ frames := 5, cells := 0, slots := 0, locals := 112 } : Room) s m args below meth c H locs 0 0 Z (F0 m 22 ls []) := by
    intro x1_0 hf H locs ls hR hS hl
    unfold f14_readLine_e1_0 at hf
    refine lv_iload_n hx hb dX14_readLine_22 rfl (lv_at hl 1 rfl) ?_
    refine lv_bipush (v := 9) hx hb dX14_readLine_23 lb_9 ?_
    refine lv_icmp_le (tgt := 34) hx hb dX14_readLine_25 (by decide) (fun c2 => ?_) (fun c2 => ?_)
    · have hf := ite_t c2 hf
      refine lv_iload_n hx hb dX14_readLine_34 rfl (lv_at hl 1 rfl) ?_
      have hj74 : ∀ (j74_s0 : Int32) (j74_i_to : Int32) (j74_i_from : Int32) (j74_i_kind : Int32) (j74_i_number : Int32) (j74_i_sign : Int32) (j74_i_fault : Int32) (j74_i_at : Int32) (j74_i_told : Int32) (j74_i_had : Int32) (j74_j_word : Int64) (j74_a_read : Nat → Int32) (j74_b_readName : Nat → Int64), f14_readLine_j74 i_size i_limit a_tape j74_s0 j74_i_to j74_i_from j74_i_kind j74_i_number j74_i_sign j74_i_fault j74_i_at j74_i_told j74_i_had j74_j_word j74_a_read j74_b_readName = some out → ∀ (H : Heap) (locs : List Loc) (ls : Array Slot), RS G K (ov I [(1105, o, j74_i_to), (1106, o, j74_i_from), (1107, o, j74_i_kind), (1108, o, j74_i_number), (1109, o, j74_i_sign), (1110, o, j74_i_fault), (1111, o, j74_i_at), (1113, o, j74_i_told), (1123, o, j74_i_had)]) (ov J [(1112, o, j74_j_word)]) X (ova A [((o + 1), a_tape), ((o + 3), j74_a_read)]) (ova B [((o + 7), j74_b_readName)]) Q H → va_S (gA G) s.heap H locs → lv_has ls 3 [(0, .ref o)] → W p l e ({ frames := 5, cells := 0, slots := 0, locals := 112 } : Room) s m args below meth c H locs 0 0 Z (F0 m 74 ls [.int j74_s0]) := by
        intro j74_s0 j74_i_to j74_i_from j74_i_kind j74_i_number j74_i_sign j74_i_fault j74_i_at j74_i_told j74_i_had j74_j_word j74_a_read j74_b_readName hf H locs ls hR hS hl
        unfold f14_readLine_j74 at hf
        refine lv_istore_n (lv' := [(2, .int j74_s0), (0, .ref o)]) hx hb dX14_readLine_74 rfl hl (by decide) rfl (fun ls hl => ?_)
        refine lv_iload_n hx hb dX14_readLine_75 rfl (lv_at hl 0 rfl) ?_
        have hj90 : ∀ (j90_i_to : Int32) (j90_i_from : Int32) (j90_i_kind : Int32) (j90_i_number : Int32) (j90_i_sign : Int32) (j90_i_fault : Int32) (j90_i_at : Int32) (j90_j_word : Int64), f14_readLine_j90 j74_i_told j74_i_had j74_a_read j74_b_readName j90_i_to j90_i_from j90_i_kind j90_i_number j90_i_sign j90_i_fault j90_i_at j90_j_word = some out → ∀ (H : Heap) (locs : List Loc) (ls : Array Slot), RS G K (ov I [(1105, o, j90_i_to), (1106, o, j90_i_from), (1107, o, j90_i_kind), (1108, o, j90_i_number), (1109, o, j90_i_sign), (1110, o, j90_i_fault), (1111, o, j90_i_at), (1113, o, j74_i_told), (1123, o, j74_i_had)]) (ov J [(1112, o, j90_j_word)]) X (ova A [((o + 1), a_tape), ((o + 3), j74_a_read)]) (ova B [((o + 7), j74_b_readName)]) Q H → va_S (gA G) s.heap H locs → lv_has ls 3 [(0, .ref o)] → W p l e ({ frames := 5, cells := 0, slots := 0, locals := 112 } : Room) s m args below meth c H locs 0 0 Z (F0 m 90 ls []) := by
          intro j90_i_to j90_i_from j90_i_kind j90_i_number j90_i_sign j90_i_fault j90_i_at j90_j_word hf H locs ls hR hS hl
          unfold f14_readLine_j90 at hf
          refine lv_iconst (v := 0) hx hb dX14_readLine_90 li_0 ?_
          obtain rfl := some_i hf
          exact hend _ _ _ _ dX14_readLine_91 nz_0 hR hS
        refine lv_if_eq (tgt := 90) hx hb dX14_readLine_76 (by decide) (fun c3 => ?_) (fun c3 => ?_)
        · have hf := ite_t c3 hf
          exact hj90 j74_i_to j74_i_from j74_i_kind j74_i_number j74_i_sign j74_i_fault j74_i_at j74_j_word hf _ _ _ hR hS (lv_sub hl [1] rfl)
        · have hf := ite_f c3 hf
          refine lv_aload_n hx hb dX14_readLine_79 rfl (lv_at hl 1 rfl) ?_
          obtain ⟨rr4, hrr4, hf⟩ := bind_s hf
          refine g0_cV (rm := (2, 45)) (As := []) (rest := []) ⟨hx, hb, hml, hown, hts⟩ hG hR hS (m14_readEnd l G K (ov I [(1105, o, j74_i_to), (1106, o, j74_i_from), (1107, o, j74_i_kind), (1108, o, j74_i_number), (1109, o, j74_i_sign), (1110, o, j74_i_fault), (1111, o, j74_i_at), (1113, o, j74_i_told), (1123, o, j74_i_had)]) (ov J [(1112, o, j74_j_word)]) X (ova A [((o + 1), a_tape), ((o + 3), j74_a_read)]) (ova B [((o + 7), j74_b_readName)]) Q o shM i_size i_limit j74_i_to j74_i_from j74_i_kind j74_i_number j74_i_sign j74_i_fault j74_i_at j74_j_word a_tape ((congrFun (ov_no rfl) _).trans e_i_size) ((congrFun (ov_no rfl) _).trans e_i_limit) (ov_get 0 rfl rfl) (ov_get 1 rfl rfl) (ov_get 2 rfl rfl) (ov_get 3 rfl rfl) (ov_get 4 rfl rfl) (ov_get 5 rfl rfl) (ov_get 6 rfl rfl) (ov_get 0 rfl rfl) (ova_get 0 hN_A rfl) rr4 hrr4) (cwV 0 hts gi_X14_279 rfl rfl rfl hd_X14_readEnd ⟨Nat.le_of_ble_eq_true rfl, Nat.le_of_ble_eq_true rfl⟩) shM.1 rfl rfl hl.1 (Nat.le_of_ble_eq_true rfl) dX14_readLine_80 ⟨Nat.le_refl _, Nat.le_refl _⟩ rfl (fun H locs hR hS => ?_)
          have hR : RS G K (ov I [(1105, o, rr4.2.1), (1106, o, rr4.2.2.1), (1107, o, rr4.2.2.2.1), (1108, o, rr4.2.2.2.2.1), (1109, o, rr4.2.2.2.2.2.1), (1110, o, rr4.2.2.2.2.2.2.1), (1111, o, rr4.2.2.2.2.2.2.2.1), (1113, o, j74_i_told), (1123, o, j74_i_had)]) (ov J [(1112, o, rr4.2.2.2.2.2.2.2.2)]) X (ova A [((o + 1), a_tape), ((o + 3), j74_a_read)]) (ova B [((o + 7), j74_b_readName)]) Q H := hR.to (ov_merge (l := [(1105, o, j74_i_to), (1106, o, j74_i_from), (1107, o, j74_i_kind), (1108, o, j74_i_number), (1109, o, j74_i_sign), (1110, o, j74_i_fault), (1111, o, j74_i_at), (1113, o, j74_i_told), (1123, o, j74_i_had)]) rfl [0, 1, 2, 3, 4, 5, 6] [(1105, o, rr4.2.1), (1106, o, rr4.2.2.1), (1107, o, rr4.2.2.2.1), (1108, o, rr4.2.2.2.2.1), (1109, o, rr4.2.2.2.2.2.1), (1110, o, rr4.2.2.2.2.2.2.1), (1111, o, rr4.2.2.2.2.2.2.2.1)] rfl rfl) (ov_merge (l := [(1112, o, j74_j_word)]) rfl [0] [(1112, o, rr4.2.2.2.2.2.2.2.2)] rfl rfl) rfl rfl rfl rfl
          refine lv_if_eq (tgt := 90) hx hb dX14_readLine_83 (by decide) (fun c5 => ?_) (fun c5 => ?_)
          · have hf := ite_t c5 hf
            exact hj90 rr4.2.1 rr4.2.2.1 rr4.2.2.2.1 rr4.2.2.2.2.1 rr4.2.2.2.2.2.1 rr4.2.2.2.2.2.2.1 rr4.2.2.2.2.2.2.2.1 rr4.2.2.2.2.2.2.2.2 hf _ _ _ hR hS (lv_sub hl [1] rfl)
          · have hf := ite_f c5 hf
            refine lv_iconst (v := 1) hx hb dX14_readLine_86 li_1 ?_
            refine lv_goto (tgt := 91) hx hb dX14_readLine_87 (by decide) ?_
            obtain rfl := some_i hf
            exact hend _ _ _ _ dX14_readLine_91 nz_1 hR hS
      refine lv_if_ne (tgt := 45) hx hb dX14_readLine_35 (by decide) (fun c6 => ?_) (fun c6 => ?_)
      · have hf := ite_f c6 hf
        refine lv_iload_n hx hb dX14_readLine_45 rfl (lv_at hl 1 rfl) ?_
        refine lv_iconst (v := 1) hx hb dX14_readLine_46 li_1 ?_
        refine lv_icmp_ne (tgt := 57) hx hb dX14_readLine_47 (by decide) (fun c7 => ?_) (fun c7 => ?_)
        · have hf := ite_f c7 hf
          refine lv_iload_n hx hb dX14_readLine_57 rfl (lv_at hl 1 rfl) ?_
          refine lv_iconst (v := 2) hx hb dX14_readLine_58 li_2 ?_
          refine lv_icmp_ne (tgt := 69) hx hb dX14_readLine_59 (by decide) (fun c8 => ?_) (fun c8 => ?_)
          · have hf := ite_f c8 hf
            refine lv_aload_n hx hb dX14_readLine_69 rfl (lv_at hl 0 rfl) ?_
            refine lv_iload_n hx hb dX14_readLine_70 rfl (lv_at hl 1 rfl) ?_
            obtain ⟨rr9, hrr9, hf⟩ := bind_s hf
            refine g0_cV (rm := (4, 90)) (As := [.int x1_0]) (rest := []) ⟨hx, hb, hml, hown, hts⟩ hG hR hS (m14_readOnce l G K (ov I [(1105, o, i_to), (1106, o, i_from), (1107, o, i_kind), (1108, o, i_number), (1109, o, i_sign), (1110, o, i_fault), (1111, o, i_at), (1113, o, i_told), (1123, o, i_had)]) (ov J [(1112, o, j_word)]) X (ova A [((o + 1), a_tape), ((o + 3), a_read)]) (ova B [((o + 7), b_readName)]) Q o shM x1_0 i_size i_limit i_to i_from i_kind i_number i_sign i_fault i_at i_told i_had j_word a_tape a_read ((congrFun (ov_no rfl) _).trans e_i_size) ((congrFun (ov_no rfl) _).trans e_i_limit) (ov_get 0 rfl rfl) (ov_get 1 rfl rfl) (ov_get 2 rfl rfl) (ov_get 3 rfl rfl) (ov_get 4 rfl rfl) (ov_get 5 rfl rfl) (ov_get 6 rfl rfl) (ov_get 7 rfl rfl) (ov_get 8 rfl rfl) (ov_get 0 rfl rfl) (ova_get 0 hN_A rfl) (ova_get 1 hN_A rfl) rr9 hrr9) (cwV 1 hts gi_X14_276 rfl rfl rfl hd_X14_readOnce ⟨Nat.le_of_ble_eq_true rfl, Nat.le_of_ble_eq_true rfl⟩) shM.1 rfl rfl hl.1 (Nat.le_of_ble_eq_true rfl) dX14_readLine_71 ⟨Nat.le_refl _, Nat.le_refl _⟩ rfl (fun H locs hR hS => ?_)
            have hR : RS G K (ov I [(1105, o, rr9.2.1), (1106, o, rr9.2.2.1), (1107, o, rr9.2.2.2.1), (1108, o, rr9.2.2.2.2.1), (1109, o, rr9.2.2.2.2.2.1), (1110, o, rr9.2.2.2.2.2.2.1), (1111, o, rr9.2.2.2.2.2.2.2.1), (1113, o, rr9.2.2.2.2.2.2.2.2.1), (1123, o, rr9.2.2.2.2.2.2.2.2.2.1)]) (ov J [(1112, o, rr9.2.2.2.2.2.2.2.2.2.2.1)]) X (ova A [((o + 1), a_tape), ((o + 3), rr9.2.2.2.2.2.2.2.2.2.2.2)]) (ova B [((o + 7), b_readName)]) Q H := hR.to (ov_merge (l := [(1105, o, i_to), (1106, o, i_from), (1107, o, i_kind), (1108, o, i_number), (1109, o, i_sign), (1110, o, i_fault), (1111, o, i_at), (1113, o, i_told), (1123, o, i_had)]) rfl [0, 1, 2, 3, 4, 5, 6, 7, 8] [(1105, o, rr9.2.1), (1106, o, rr9.2.2.1), (1107, o, rr9.2.2.2.1), (1108, o, rr9.2.2.2.2.1), (1109, o, rr9.2.2.2.2.2.1), (1110, o, rr9.2.2.2.2.2.2.1), (1111, o, rr9.2.2.2.2.2.2.2.1), (1113, o, rr9.2.2.2.2.2.2.2.2.1), (1123, o, rr9.2.2.2.2.2.2.2.2.2.1)] rfl rfl) (ov_merge (l := [(1112, o, j_word)]) rfl [0] [(1112, o, rr9.2.2.2.2.2.2.2.2.2.2.1)] rfl rfl) rfl (ova_merge (l := [((o + 1), a_tape), ((o + 3), a_read)]) hN_A [0, 1] [((o + 1), a_tape), ((o + 3), rr9.2.2.2.2.2.2.2.2.2.2.2)] rfl rfl) rfl rfl
            exact hj74 rr9.1 rr9.2.1 rr9.2.2.1 rr9.2.2.2.1 rr9.2.2.2.2.1 rr9.2.2.2.2.2.1 rr9.2.2.2.2.2.2.1 rr9.2.2.2.2.2.2.2.1 rr9.2.2.2.2.2.2.2.2.1 rr9.2.2.2.2.2.2.2.2.2.1 rr9.2.2.2.2.2.2.2.2.2.2.1 rr9.2.2.2.2.2.2.2.2.2.2.2 b_readName hf _ _ _ hR hS (lv_sub hl [0] rfl)
          · have hf := ite_t c8 hf
            refine lv_aload_n hx hb dX14_readLine_62 rfl (lv_at hl 0 rfl) ?_
            obtain ⟨rr10, hrr10, hf⟩ := bind_s hf
            refine g0_cV (rm := (3, 67)) (As := []) (rest := []) ⟨hx, hb, hml, hown, hts⟩ hG hR hS (m14_readBurn l G K (ov I [(1105, o, i_to), (1106, o, i_from), (1107, o, i_kind), (1108, o, i_number), (1109, o, i_sign), (1110, o, i_fault), (1111, o, i_at), (1113, o, i_told), (1123, o, i_had)]) (ov J [(1112, o, j_word)]) X (ova A [((o + 1), a_tape), ((o + 3), a_read)]) (ova B [((o + 7), b_readName)]) Q o shM i_size i_limit i_to i_from i_kind i_number i_sign i_fault i_at i_told j_word a_tape a_read ((congrFun (ov_no rfl) _).trans e_i_size) ((congrFun (ov_no rfl) _).trans e_i_limit) (ov_get 0 rfl rfl) (ov_get 1 rfl rfl) (ov_get 2 rfl rfl) (ov_get 3 rfl rfl) (ov_get 4 rfl rfl) (ov_get 5 rfl rfl) (ov_get 6 rfl rfl) (ov_get 7 rfl rfl) (ov_get 0 rfl rfl) (ova_get 0 hN_A rfl) (ova_get 1 hN_A rfl) rr10 hrr10) (cwV 0 hts gi_X14_273 rfl rfl rfl hd_X14_readBurn ⟨Nat.le_of_ble_eq_true rfl, Nat.le_of_ble_eq_true rfl⟩) shM.1 rfl rfl hl.1 (Nat.le_of_ble_eq_true rfl) dX14_readLine_63 ⟨Nat.le_refl _, Nat.le_refl _⟩ rfl (fun H locs hR hS => ?_)
            have hR : RS G K (ov I [(1105, o, rr10.2.1), (1106, o, rr10.2.2.1), (1107, o, rr10.2.2.2.1), (1108, o, rr10.2.2.2.2.1), (1109, o, rr10.2.2.2.2.2.1), (1110, o, rr10.2.2.2.2.2.2.1), (1111, o, rr10.2.2.2.2.2.2.2.1), (1113, o, rr10.2.2.2.2.2.2.2.2.1), (1123, o, i_had)]) (ov J [(1112, o, rr10.2.2.2.2.2.2.2.2.2.1)]) X (ova A [((o + 1), a_tape), ((o + 3), rr10.2.2.2.2.2.2.2.2.2.2)]) (ova B [((o + 7), b_readName)]) Q H := hR.to (ov_merge (l := [(1105, o, i_to), (1106, o, i_from), (1107, o, i_kind), (1108, o, i_number), (1109, o, i_sign), (1110, o, i_fault), (1111, o, i_at), (1113, o, i_told), (1123, o, i_had)]) rfl [0, 1, 2, 3, 4, 5, 6, 7] [(1105, o, rr10.2.1), (1106, o, rr10.2.2.1), (1107, o, rr10.2.2.2.1), (1108, o, rr10.2.2.2.2.1), (1109, o, rr10.2.2.2.2.2.1), (1110, o, rr10.2.2.2.2.2.2.1), (1111, o, rr10.2.2.2.2.2.2.2.1), (1113, o, rr10.2.2.2.2.2.2.2.2.1)] rfl rfl) (ov_merge (l := [(1112, o, j_word)]) rfl [0] [(1112, o, rr10.2.2.2.2.2.2.2.2.2.1)] rfl rfl) rfl (ova_merge (l := [((o + 1), a_tape), ((o + 3), a_read)]) hN_A [0, 1] [((o + 1), a_tape), ((o + 3), rr10.2.2.2.2.2.2.2.2.2.2)] rfl rfl) rfl rfl
            refine lv_goto (tgt := 74) hx hb dX14_readLine_66 (by decide) ?_
            exact hj74 rr10.1 rr10.2.1 rr10.2.2.1 rr10.2.2.2.1 rr10.2.2.2.2.1 rr10.2.2.2.2.2.1 rr10.2.2.2.2.2.2.1 rr10.2.2.2.2.2.2.2.1 rr10.2.2.2.2.2.2.2.2.1 i_had rr10.2.2.2.2.2.2.2.2.2.1 rr10.2.2.2.2.2.2.2.2.2.2 b_readName hf _ _ _ hR hS (lv_sub hl [0] rfl)
        · have hf := ite_t c7 hf
          refine lv_aload_n hx hb dX14_readLine_50 rfl (lv_at hl 0 rfl) ?_
          obtain ⟨rr11, hrr11, hf⟩ := bind_s hf
          refine g0_cV (rm := (2, 45)) (As := []) (rest := []) ⟨hx, hb, hml, hown, hts⟩ hG hR hS (m14_readCells l G K (ov I [(1105, o, i_to), (1106, o, i_from), (1107, o, i_kind), (1108, o, i_number), (1109, o, i_sign), (1110, o, i_fault), (1111, o, i_at), (1113, o, i_told), (1123, o, i_had)]) (ov J [(1112, o, j_word)]) X (ova A [((o + 1), a_tape), ((o + 3), a_read)]) (ova B [((o + 7), b_readName)]) Q o shM i_size i_limit i_to i_from i_kind i_number i_sign i_fault i_at j_word a_tape a_read ((congrFun (ov_no rfl) _).trans e_i_size) ((congrFun (ov_no rfl) _).trans e_i_limit) (ov_get 0 rfl rfl) (ov_get 1 rfl rfl) (ov_get 2 rfl rfl) (ov_get 3 rfl rfl) (ov_get 4 rfl rfl) (ov_get 5 rfl rfl) (ov_get 6 rfl rfl) (ov_get 0 rfl rfl) (ova_get 0 hN_A rfl) (ova_get 1 hN_A rfl) rr11 hrr11) (cwV 0 hts gi_X14_270 rfl rfl rfl hd_X14_readCells ⟨Nat.le_of_ble_eq_true rfl, Nat.le_of_ble_eq_true rfl⟩) shM.1 rfl rfl hl.1 (Nat.le_of_ble_eq_true rfl) dX14_readLine_51 ⟨Nat.le_refl _, Nat.le_refl _⟩ rfl (fun H locs hR hS => ?_)
          have hR : RS G K (ov I [(1105, o, rr11.2.1), (1106, o, rr11.2.2.1), (1107, o, rr11.2.2.2.1), (1108, o, rr11.2.2.2.2.1), (1109, o, rr11.2.2.2.2.2.1), (1110, o, rr11.2.2.2.2.2.2.1), (1111, o, rr11.2.2.2.2.2.2.2.1), (1113, o, i_told), (1123, o, i_had)]) (ov J [(1112, o, rr11.2.2.2.2.2.2.2.2.1)]) X (ova A [((o + 1), a_tape), ((o + 3), rr11.2.2.2.2.2.2.2.2.2)]) (ova B [((o + 7), b_readName)]) Q H := hR.to (ov_merge (l := [(1105, o, i_to), (1106, o, i_from), (1107, o, i_kind), (1108, o, i_number), (1109, o, i_sign), (1110, o, i_fault), (1111, o, i_at), (1113, o, i_told), (1123, o, i_had)]) rfl [0, 1, 2, 3, 4, 5, 6] [(1105, o, rr11.2.1), (1106, o, rr11.2.2.1), (1107, o, rr11.2.2.2.1), (1108, o, rr11.2.2.2.2.1), (1109, o, rr11.2.2.2.2.2.1), (1110, o, rr11.2.2.2.2.2.2.1), (1111, o, rr11.2.2.2.2.2.2.2.1)] rfl rfl) (ov_merge (l := [(1112, o, j_word)]) rfl [0] [(1112, o, rr11.2.2.2.2.2.2.2.2.1)] rfl rfl) rfl (ova_merge (l := [((o + 1), a_tape), ((o + 3), a_read)]) hN_A [0, 1] [((o + 1), a_tape), ((o + 3), rr11.2.2.2.2.2.2.2.2.2)] rfl rfl) rfl rfl
          refine lv_goto (tgt := 74) hx hb dX14_readLine_54 (by decide) ?_
          exact hj74 rr11.1 rr11.2.1 rr11.2.2.1 rr11.2.2.2.1 rr11.2.2.2.2.1 rr11.2.2.2.2.2.1 rr11.2.2.2.2.2.2.1 rr11.2.2.2.2.2.2.2.1 i_told i_had rr11.2.2.2.2.2.2.2.2.1 rr11.2.2.2.2.2.2.2.2.2 b_readName hf _ _ _ hR hS (lv_sub hl [0] rfl)
      · have hf := ite_t c6 hf
        refine lv_aload_n hx hb dX14_readLine_38 rfl (lv_at hl 0 rfl) ?_
        obtain ⟨rr12, hrr12, hf⟩ := bind_s hf
        refine g0_cV (rm := (3, 67)) (As := []) (rest := []) ⟨hx, hb, hml, hown, hts⟩ hG hR hS (m14_readMan l G K (ov I [(1105, o, i_to), (1106, o, i_from), (1107, o, i_kind), (1108, o, i_number), (1109, o, i_sign), (1110, o, i_fault), (1111, o, i_at), (1113, o, i_told), (1123, o, i_had)]) (ov J [(1112, o, j_word)]) X (ova A [((o + 1), a_tape), ((o + 3), a_read)]) (ova B [((o + 7), b_readName)]) Q o shM i_size i_limit i_to i_from i_kind i_number i_sign i_fault i_at i_told j_word a_tape a_read b_readName ((congrFun (ov_no rfl) _).trans e_i_size) ((congrFun (ov_no rfl) _).trans e_i_limit) (ov_get 0 rfl rfl) (ov_get 1 rfl rfl) (ov_get 2 rfl rfl) (ov_get 3 rfl rfl) (ov_get 4 rfl rfl) (ov_get 5 rfl rfl) (ov_get 6 rfl rfl) (ov_get 7 rfl rfl) (ov_get 0 rfl rfl) (ova_get 0 hN_A rfl) (ova_get 1 hN_A rfl) (ova_get 0 hN_B rfl) rr12 hrr12) (cwV 0 hts gi_X14_267 rfl rfl rfl hd_X14_readMan ⟨Nat.le_of_ble_eq_true rfl, Nat.le_of_ble_eq_true rfl⟩) shM.1 rfl rfl hl.1 (Nat.le_of_ble_eq_true rfl) dX14_readLine_39 ⟨Nat.le_refl _, Nat.le_refl _⟩ rfl (fun H locs hR hS => ?_)
        have hR : RS G K (ov I [(1105, o, rr12.2.1), (1106, o, rr12.2.2.1), (1107, o, rr12.2.2.2.1), (1108, o, rr12.2.2.2.2.1), (1109, o, rr12.2.2.2.2.2.1), (1110, o, rr12.2.2.2.2.2.2.1), (1111, o, rr12.2.2.2.2.2.2.2.1), (1113, o, rr12.2.2.2.2.2.2.2.2.1), (1123, o, i_had)]) (ov J [(1112, o, rr12.2.2.2.2.2.2.2.2.2.1)]) X (ova A [((o + 1), a_tape), ((o + 3), rr12.2.2.2.2.2.2.2.2.2.2.1)]) (ova B [((o + 7), rr12.2.2.2.2.2.2.2.2.2.2.2)]) Q H := hR.to (ov_merge (l := [(1105, o, i_to), (1106, o, i_from), (1107, o, i_kind), (1108, o, i_number), (1109, o, i_sign), (1110, o, i_fault), (1111, o, i_at), (1113, o, i_told), (1123, o, i_had)]) rfl [0, 1, 2, 3, 4, 5, 6, 7] [(1105, o, rr12.2.1), (1106, o, rr12.2.2.1), (1107, o, rr12.2.2.2.1), (1108, o, rr12.2.2.2.2.1), (1109, o, rr12.2.2.2.2.2.1), (1110, o, rr12.2.2.2.2.2.2.1), (1111, o, rr12.2.2.2.2.2.2.2.1), (1113, o, rr12.2.2.2.2.2.2.2.2.1)] rfl rfl) (ov_merge (l := [(1112, o, j_word)]) rfl [0] [(1112, o, rr12.2.2.2.2.2.2.2.2.2.1)] rfl rfl) rfl (ova_merge (l := [((o + 1), a_tape), ((o + 3), a_read)]) hN_A [0, 1] [((o + 1), a_tape), ((o + 3), rr12.2.2.2.2.2.2.2.2.2.2.1)] rfl rfl) (ova_merge (l := [((o + 7), b_readName)]) hN_B [0] [((o + 7), rr12.2.2.2.2.2.2.2.2.2.2.2)] rfl rfl) rfl
        refine lv_goto (tgt := 74) hx hb dX14_readLine_42 (by decide) ?_
        exact hj74 rr12.1 rr12.2.1 rr12.2.2.1 rr12.2.2.2.1 rr12.2.2.2.2.1 rr12.2.2.2.2.2.1 rr12.2.2.2.2.2.2.1 rr12.2.2.2.2.2.2.2.1 rr12.2.2.2.2.2.2.2.2.1 i_had rr12.2.2.2.2.2.2.2.2.2.1 rr12.2.2.2.2.2.2.2.2.2.2.1 rr12.2.2.2.2.2.2.2.2.2.2.2 hf _ _ _ hR hS (lv_sub hl [0] rfl)
    · have hf := ite_f c2 hf
      refine lv_aload_n hx hb dX14_readLine_28 rfl (lv_at hl 0 rfl) ?_
      refine lv_iconst (v := 1) hx hb dX14_readLine_29 li_1 ?_
      obtain ⟨rr13, hrr13, hf⟩ := bind_s hf
      refine g0_cV (rm := (0, 0)) (As := [.int (1 : Int32)]) (rest := []) ⟨hx, hb, hml, hown, hts⟩ hG hR hS (m14_bad l G K (ov I [(1105, o, i_to), (1106, o, i_from), (1107, o, i_kind), (1108, o, i_number), (1109, o, i_sign), (1110, o, i_fault), (1111, o, i_at), (1113, o, i_told), (1123, o, i_had)]) (ov J [(1112, o, j_word)]) X (ova A [((o + 1), a_tape), ((o + 3), a_read)]) (ova B [((o + 7), b_readName)]) Q o shM (1 : Int32) i_from i_kind i_fault i_at (ov_get 1 rfl rfl) (ov_get 2 rfl rfl) (ov_get 5 rfl rfl) (ov_get 6 rfl rfl) rr13 hrr13) (cwV 1 hts gi_X14_216 rfl rfl rfl hd_X14_bad ⟨Nat.le_of_ble_eq_true rfl, Nat.le_of_ble_eq_true rfl⟩) shM.1 rfl rfl hl.1 (Nat.le_of_ble_eq_true rfl) dX14_readLine_30 ⟨Nat.le_refl _, Nat.le_refl _⟩ rfl (fun H locs hR hS => ?_)
      have hR : RS G K (ov I [(1105, o, i_to), (1106, o, i_from), (1107, o, i_kind), (1108, o, i_number), (1109, o, i_sign), (1110, o, rr13.2.1), (1111, o, rr13.2.2), (1113, o, i_told), (1123, o, i_had)]) (ov J [(1112, o, j_word)]) X (ova A [((o + 1), a_tape), ((o + 3), a_read)]) (ova B [((o + 7), b_readName)]) Q H := hR.to (ov_merge (l := [(1105, o, i_to), (1106, o, i_from), (1107, o, i_kind), (1108, o, i_number), (1109, o, i_sign), (1110, o, i_fault), (1111, o, i_at), (1113, o, i_told), (1123, o, i_had)]) rfl [5, 6] [(1110, o, rr13.2.1), (1111, o, rr13.2.2)] rfl rfl) rfl rfl rfl rfl rfl
      obtain ⟨hz9, hf⟩ := gd_some hf
      obtain rfl := some_i hf
      exact hend _ _ _ _ dX14_readLine_33 (congrArg Value.int hz9) hR hS
  refine whl_walk (P := fun (s1 : Int32) => ∀ (H : Heap) (locs : List Loc) (ls : Array Slot), RS G K (ov I [(1105, o, i_to), (1106, o, i_from), (1107, o, i_kind), (1108, o, i_number), (1109, o, i_sign), (1110, o, i_fault), (1111, o, i_at), (1113, o, i_told), (1123, o, i_had)]) (ov J [(1112, o, j_word)]) X (ova A [((o + 1), a_tape), ((o + 3), a_read)]) (ova B [((o + 7), b_readName)]) Q H → va_S (gA G) s.heap H locs → lv_has ls 3 [(0, .ref o), (1, .int s1)] → W p l e ({ frames := 5, cells := 0, slots := 0, locals := 112 } : Room) s m args below meth c H locs 0 0 Z (F0 m 2 ls [])) (r := rl1) ?_ FU _ hw1 _ _ _ hR hS (lv_sub hl [1, 0] rfl)
  clear hR hS hl hf
  intro s1 o1 hf hk1 H locs ls hR hS hl
  obtain ⟨w1_1, rfl⟩ : ∃ z, z = s1 := ⟨_, rfl⟩
  have hf : f14_readLine_s1 i_kind j_word w1_1 = some o1 := hf
  have hR : RS G K (ov I [(1105, o, i_to), (1106, o, i_from), (1107, o, i_kind), (1108, o, i_number), (1109, o, i_sign), (1110, o, i_fault), (1111, o, i_at), (1113, o, i_told), (1123, o, i_had)]) (ov J [(1112, o, j_word)]) X (ova A [((o + 1), a_tape), ((o + 3), a_read)]) (ova B [((o + 7), b_readName)]) Q H := hR
  have hl : lv_has ls 3 [(0, .ref o), (1, .int w1_1)] := hl
  unfold f14_readLine_s1 at hf
  refine lv_iload_n hx hb dX14_readLine_2 rfl (lv_at hl 1 rfl) ?_
  refine lv_bipush (v := 9) hx hb dX14_readLine_3 lb_9 ?_
  refine lv_icmp_gt (tgt := 22) hx hb dX14_readLine_5 (by decide) (fun c14 => ?_) (fun c14 => ?_)
  · have hf := ite_t c14 hf
    obtain rfl := some_i hf
    replace hk1 : _ = rl1 := hk1
    subst hk1
    exact hx1_0 w1_1 hfo1 _ _ _ hR hS (lv_sub hl [0, 1] rfl)
  · have hf := ite_f c14 hf
    refine lv_aload_n hx hb dX14_readLine_8 rfl (lv_at hl 0 rfl) ?_
    refine lv_iload_n hx hb dX14_readLine_9 rfl (lv_at hl 1 rfl) ?_
    obtain ⟨rr15, hrr15, hf⟩ := bind_s hf
    refine g0_cV (rm := (2, 46)) (As := [.int w1_1]) (rest := []) ⟨hx, hb, hml, hown, hts⟩ hG hR hS (m14_isWord l G K (ov I [(1105, o, i_to), (1106, o, i_from), (1107, o, i_kind), (1108, o, i_number), (1109, o, i_sign), (1110, o, i_fault), (1111, o, i_at), (1113, o, i_told), (1123, o, i_had)]) (ov J [(1112, o, j_word)]) X (ova A [((o + 1), a_tape), ((o + 3), a_read)]) (ova B [((o + 7), b_readName)]) Q o shM w1_1 i_kind j_word (ov_get 2 rfl rfl) (ov_get 0 rfl rfl) rr15 hrr15) (cwV 1 hts gi_X14_264 rfl rfl rfl hd_X14_isWord ⟨Nat.le_of_ble_eq_true rfl, Nat.le_of_ble_eq_true rfl⟩) shM.1 rfl rfl hl.1 (Nat.le_of_ble_eq_true rfl) dX14_readLine_10 ⟨Nat.le_refl _, Nat.le_refl _⟩ rfl (fun H locs hR hS => ?_)
    refine lv_if_ne (tgt := 22) hx hb dX14_readLine_13 (by decide) (fun c16 => ?_) (fun c16 => ?_)
    · have hf := ite_f c16 hf
      obtain rfl := some_i hf
      replace hk1 : _ = rl1 := hk1
      subst hk1
      exact hx1_0 w1_1 hfo1 _ _ _ hR hS (lv_sub hl [0, 1] rfl)
    · have hf := ite_t c16 hf
      obtain ⟨v17, ev17, hf⟩ := lt_some hf
      refine lv_iinc (k := 1) (v := v17) (lv' := [(1, .int v17), (0, .ref o)]) hx hb dX14_readLine_16 hl rfl (by rw [ev17]; rfl) (by decide) rfl (fun ls hl => ?_)
      refine lv_goto (tgt := 2) hx hb dX14_readLine_19 (by decide) ?_
      obtain rfl := some_i hf
      exact hk1 _ _ _ hR hS (lv_sub hl [1, 0] rfl)
noncomputable def f14_takesUp_j114 (p1 : Int32) (a_rest : Nat → Int32) (j69_i_well : Int32) (j69_i_empty : Int32) (j69_i_drawn : Int32) (j69_a_load : Nat → Int32) (j69_a_queue : Nat → Int32) (j69_a_waits : Nat → Int32) (rr3 : Int32) (j114_s0 : Int32) : Option (Int32 × Int32 × Int32 × (Nat → Int32) × (Nat → Int32) × (Nat → Int32) × (Nat → Int32)) :=
  lt (rr3 * j114_s0) fun v8 =>
  gd (inb p1 12) <|
  lt (upd a_rest p1.toNatClampNeg v8) fun u10 =>
  some (j69_i_well, j69_i_empty, j69_i_drawn, u10, j69_a_load, j69_a_queue, j69_a_waits)

noncomputable def f14_takesUp_j69 (p1 : Int32) (i_teamMany : Int32) (a_now : Nat → Int32) (a_team : Nat → Int32) (a_rest : Nat → Int32) (a_done : Nat → Int32) (j69_i_well : Int32) (j69_i_empty : Int32) (j69_i_drawn : Int32) (j69_a_load : Nat → Int32) (j69_a_queue : Nat → Int32) (j69_a_waits : Nat → Int32) : Option (Int32 × Int32 × Int32 × (Nat → Int32) × (Nat → Int32) × (Nat → Int32) × (Nat → Int32)) :=
  gd (inb p1 12) <|
  lt (a_team p1.toNatClampNeg) fun v2 =>
  (f14_timeOf p1 i_teamMany v2 a_now).bind fun rr3 =>
  gd (inb p1 12) <|
  lt (a_done p1.toNatClampNeg) fun v5 =>
  (f14_manOf v2 (2 : Int32) a_now).bind fun rr6 =>
  lt ((10 : Int32) * rr6) fun v7 =>
  if v5 < v7 then
    f14_takesUp_j114 p1 a_rest j69_i_well j69_i_empty j69_i_drawn j69_a_load j69_a_queue j69_a_waits rr3 (1 : Int32)
  else
    f14_takesUp_j114 p1 a_rest j69_i_well j69_i_empty j69_i_drawn j69_a_load j69_a_queue j69_a_waits rr3 (2 : Int32)

noncomputable def f14_takesUp_j31 (p1 : Int32) (i_teamMany : Int32) (i_well : Int32) (i_empty : Int32) (i_drawn : Int32) (a_now : Nat → Int32) (a_team : Nat → Int32) (a_rest : Nat → Int32) (a_load : Nat → Int32) (a_done : Nat → Int32) (a_queue : Nat → Int32) (a_waits : Nat → Int32) : Option (Int32 × Int32 × Int32 × (Nat → Int32) × (Nat → Int32) × (Nat → Int32) × (Nat → Int32)) :=
  if p1 = 0 then
    lt (i_empty - (1 : Int32)) fun v16 =>
    (f14_draws i_well i_drawn a_now).bind fun rr17 =>
    gd (inb (0 : Int32) 12) <|
    lt (upd a_load (0 : Int32).toNatClampNeg rr17.1) fun u19 =>
    f14_takesUp_j69 p1 i_teamMany a_now a_team a_rest a_done rr17.2.1 v16 rr17.2.2 u19 a_queue a_waits
  else
    (f14_shift p1 a_queue a_waits).bind fun rr13 =>
    gd (inb p1 12) <|
    lt (upd a_load p1.toNatClampNeg rr13.1) fun u15 =>
    f14_takesUp_j69 p1 i_teamMany a_now a_team a_rest a_done i_well i_empty i_drawn u15 rr13.2.1 rr13.2.2

noncomputable def f14_takesUp (p1 : Int32) (i_teamMany : Int32) (i_well : Int32) (i_empty : Int32) (i_drawn : Int32) (a_now : Nat → Int32) (a_team : Nat → Int32) (a_rest : Nat → Int32) (a_load : Nat → Int32) (a_done : Nat → Int32) (a_queue : Nat → Int32) (a_waits : Nat → Int32) : Option (Int32 × Int32 × Int32 × (Nat → Int32) × (Nat → Int32) × (Nat → Int32) × (Nat → Int32)) :=
  if p1 = 0 then
    if i_empty = 0 then
      some (i_well, i_empty, i_drawn, a_rest, a_load, a_queue, a_waits)
    else
      if i_well = 0 then
        some (i_well, i_empty, i_drawn, a_rest, a_load, a_queue, a_waits)
      else
        f14_takesUp_j31 p1 i_teamMany i_well i_empty i_drawn a_now a_team a_rest a_load a_done a_queue a_waits
  else
    gd (inb p1 12) <|
    lt (a_waits p1.toNatClampNeg) fun v22 =>
    if v22 = 0 then
      some (i_well, i_empty, i_drawn, a_rest, a_load, a_queue, a_waits)
    else
      f14_takesUp_j31 p1 i_teamMany i_well i_empty i_drawn a_now a_team a_rest a_load a_done a_queue a_waits
set_option maxHeartbeats 4000000 in
theorem m14_takesUp (l : Launch) (G : gG) (K : gK) (I : gI) (J : gJ) (X : gX) (A : gI) (B : gJ) (Q : gX) (o : Nat) (shM : Sh K X o 11 rows11) (p1 : Int32) (i_teamMany : Int32) (i_well : Int32) (i_empty : Int32) (i_drawn : Int32) (a_now : Nat → Int32) (a_team : Nat → Int32) (a_rest : Nat → Int32) (a_load : Nat → Int32) (a_done : Nat → Int32) (a_queue : Nat → Int32) (a_waits : Nat → Int32) (e_i_teamMany : I 1133 o = i_teamMany) (e_i_well : I 1135 o = i_well) (e_i_empty : I 1137 o = i_empty) (e_i_drawn : I 1142 o = i_drawn) (e_a_now : A (o + 2) = a_now) (e_a_team : A (o + 10) = a_team) (e_a_rest : A (o + 11) = a_rest) (e_a_load : A (o + 12) = a_load) (e_a_done : A (o + 13) = a_done) (e_a_queue : A (o + 14) = a_queue) (e_a_waits : A (o + 15) = a_waits) (out : Int32 × Int32 × Int32 × (Nat → Int32) × (Nat → Int32) × (Nat → Int32) × (Nat → Int32)) (hf : f14_takesUp p1 i_teamMany i_well i_empty i_drawn a_now a_team a_rest a_load a_done a_queue a_waits = some out) : GMet l yX14_takesUp cX14_takesUp 3 none (3) (65) G [.ref o, .int p1] K I J X A B Q none K (ov I [(1135, o, out.1), (1137, o, out.2.1), (1142, o, out.2.2.1)]) J X (ova A [((o + 2), a_now), ((o + 10), a_team), ((o + 11), out.2.2.2.1), ((o + 12), out.2.2.2.2.1), ((o + 13), a_done), ((o + 14), out.2.2.2.2.2.1), ((o + 15), out.2.2.2.2.2.2)]) B Q 0 0 := by
  refine GMet.of (y := yX14_takesUp) rfl (Nat.le_of_ble_eq_true rfl) rfl ?_
  intro p e s m below meth c ls hx hb hr hml hlocks hts hown hname hG hR hl
  have hown : s.vm.findClass RX14 = some m.cls := hown
  have k_a_now : K (o + 2) = some (.inr (0, 800)) := (shM.2 1 _ rfl).1
  have k_a_team : K (o + 10) = some (.inr (0, 12)) := (shM.2 9 _ rfl).1
  have k_a_rest : K (o + 11) = some (.inr (0, 12)) := (shM.2 10 _ rfl).1
  have k_a_load : K (o + 12) = some (.inr (0, 12)) := (shM.2 11 _ rfl).1
  have k_a_done : K (o + 13) = some (.inr (0, 12)) := (shM.2 12 _ rfl).1
  have k_a_queue : K (o + 14) = some (.inr (0, 360)) := (shM.2 13 _ rfl).1
  have k_a_waits : K (o + 15) = some (.inr (0, 12)) := (shM.2 14 _ rfl).1
  have hN_A : nda [(o + 2), (o + 10), (o + 11), (o + 12), (o + 13), (o + 14), (o + 15)] := nd_off o [2, 10, 11, 12, 13, 14, 15] rfl
  have hR : RS G K (ov I [(1135, o, i_well), (1137, o, i_empty), (1142, o, i_drawn)]) J X (ova A [((o + 2), a_now), ((o + 10), a_team), ((o + 11), a_rest), ((o + 12), a_load), ((o + 13), a_done), ((o + 14), a_queue), ((o + 15), a_waits)]) B Q s.heap := hR.to (Eq.symm (ov_sc e_i_well (ov_sc e_i_empty (ov_sc e_i_drawn rfl)))) rfl rfl (Eq.symm (ova_sc e_a_now (ova_sc e_a_team (ova_sc e_a_rest (ova_sc e_a_load (ova_sc e_a_done (ova_sc e_a_queue (ova_sc e_a_waits rfl)))))))) rfl rfl
  have hS : va_S (gA G) s.heap s.heap [] := va_S.rf
  have hend : ∀ (pc : Nat) (H : Heap) (locs : List Loc) (ls : Array Slot), decode cX14_takesUp pc = .ok (.return_, 1) → RS G K (ov I [(1135, o, out.1), (1137, o, out.2.1), (1142, o, out.2.2.1)]) J X (ova A [((o + 2), a_now), ((o + 10), a_team), ((o + 11), out.2.2.2.1), ((o + 12), out.2.2.2.2.1), ((o + 13), a_done), ((o + 14), out.2.2.2.2.2.1), ((o + 15), out.2.2.2.2.2.2)]) B Q H → va_S (gA G) s.heap H locs → W p l e ({ frames := 3, cells := 0, slots := 0, locals := 65 } : Room) s m ([.ref o, .int p1] : List Value).toArray below meth c H locs 0 0 (MQ below (gQ G none K (ov I [(1135, o, out.1), (1137, o, out.2.1), (1142, o, out.2.2.1)]) J X (ova A [((o + 2), a_now), ((o + 10), a_team), ((o + 11), out.2.2.2.1), ((o + 12), out.2.2.2.2.1), ((o + 13), a_done), ((o + 14), out.2.2.2.2.2.1), ((o + 15), out.2.2.2.2.2.2)]) B Q) ([.ref o, .int p1] : List Value).toArray s 0 0 (gA G)) (F0 m pc ls []) := fun pc H locs ls hd hR hS => g_vret hx hb hr hlocks hG hR hS rfl hd
  generalize MQ below (gQ G none K (ov I [(1135, o, out.1), (1137, o, out.2.1), (1142, o, out.2.2.1)]) J X (ova A [((o + 2), a_now), ((o + 10), a_team), ((o + 11), out.2.2.2.1), ((o + 12), out.2.2.2.2.1), ((o + 13), a_done), ((o + 14), out.2.2.2.2.2.1), ((o + 15), out.2.2.2.2.2.2)]) B Q) ([.ref o, .int p1] : List Value).toArray s 0 0 (gA G) = Z at hend ⊢
  generalize ([.ref o, .int p1] : List Value).toArray = args at hts hend ⊢
  unfold f14_takesUp at hf
  refine lv_iload_n hx hb dX14_takesUp_0 rfl (lv_at hl 1 rfl) ?_
  have hj31 : ∀ (_ : Unit), f14_takesUp_j31 p1 i_teamMany i_well i_empty i_drawn a_now a_team a_rest a_load a_done a_queue a_waits = some out → ∀ (H : Heap) (locs : List Loc) (ls : Array Slot), RS G K (ov I [(1135, o, i_well), (1137, o, i_empty), (1142, o, i_drawn)]) J X (ova A [((o + 2), a_now), ((o + 10), a_team), ((o + 11), a_rest), ((o + 12), a_load), ((o + 13), a_done), ((o + 14), a_queue), ((o + 15), a_waits)]) B Q H → va_S (gA G) s.heap H locs → lv_has ls 3 [(0, .ref o), (1, .int p1)] → W p l e ({ frames := 3, cells := 0, slots := 0, locals := 65 } : Room) s m args below meth c H locs 0 0 Z (F0 m 31 ls []) := by
    intro _ hf H locs ls hR hS hl
    unfold f14_takesUp_j31 at hf
    refine lv_iload_n hx hb dX14_takesUp_31 rfl (lv_at hl 1 rfl) ?_
    have hj69 : ∀ (j69_i_well : Int32) (j69_i_empty : Int32) (j69_i_drawn : Int32) (j69_a_load : Nat → Int32) (j69_a_queue : Nat → Int32) (j69_a_waits : Nat → Int32), f14_takesUp_j69 p1 i_teamMany a_now a_team a_rest a_done j69_i_well j69_i_empty j69_i_drawn j69_a_load j69_a_queue j69_a_waits = some out → ∀ (H : Heap) (locs : List Loc) (ls : Array Slot), RS G K (ov I [(1135, o, j69_i_well), (1137, o, j69_i_empty), (1142, o, j69_i_drawn)]) J X (ova A [((o + 2), a_now), ((o + 10), a_team), ((o + 11), a_rest), ((o + 12), j69_a_load), ((o + 13), a_done), ((o + 14), j69_a_queue), ((o + 15), j69_a_waits)]) B Q H → va_S (gA G) s.heap H locs → lv_has ls 3 [(0, .ref o), (1, .int p1)] → W p l e ({ frames := 3, cells := 0, slots := 0, locals := 65 } : Room) s m args below meth c H locs 0 0 Z (F0 m 69 ls []) := by
      intro j69_i_well j69_i_empty j69_i_drawn j69_a_load j69_a_queue j69_a_waits hf H locs ls hR hS hl
      unfold f14_takesUp_j69 at hf
      refine lv_aload_n hx hb dX14_takesUp_69 rfl (lv_at hl 0 rfl) ?_
      refine g_getr (b := (o + 10)) hx hb hts hown hG hR gFx_X14_39_11 shM.1 ((shM.2 9 _ rfl).2) dX14_takesUp_70 ?_
      refine lv_iload_n hx hb dX14_takesUp_73 rfl (lv_at hl 1 rfl) ?_
      obtain ⟨c1, hf⟩ := gd_some hf
      obtain ⟨v2, ev2, hf⟩ := lt_some hf
      refine n_iald (x := a_team) hx hb hG hR k_a_team c1 (ova_get 1 hN_A rfl) ev2 dX14_takesUp_74 ?_
      refine lv_istore_n (lv' := [(2, .int v2), (0, .ref o), (1, .int p1)]) hx hb dX14_takesUp_75 rfl hl (by decide) rfl (fun ls hl => ?_)
      refine lv_aload_n hx hb dX14_takesUp_76 rfl (lv_at hl 1 rfl) ?_
      refine g_getr (b := (o + 11)) hx hb hts hown hG hR gFx_X14_42_11 shM.1 ((shM.2 10 _ rfl).2) dX14_takesUp_77 ?_
      refine lv_iload_n hx hb dX14_takesUp_80 rfl (lv_at hl 2 rfl) ?_
      refine lv_aload_n hx hb dX14_takesUp_81 rfl (lv_at hl 1 rfl) ?_
      refine lv_iload_n hx hb dX14_takesUp_82 rfl (lv_at hl 2 rfl) ?_
      refine lv_aload_n hx hb dX14_takesUp_83 rfl (lv_at hl 1 rfl) ?_
      refine n_geti (v := i_teamMany) hx hb hts hown hG hR gFi_X14_304_11 shM.1 ((congrFun (ov_no rfl) _).trans e_i_teamMany) dX14_takesUp_84 ?_
      refine lv_iload_n hx hb dX14_takesUp_87 rfl (lv_at hl 0 rfl) ?_
      obtain ⟨rr3, hrr3, hf⟩ := bind_s hf
      refine g0_cV (rm := (2, 42)) (As := [.int p1, .int i_teamMany, .int v2]) (rest := [.int p1, .ref (o + 11)]) ⟨hx, hb, hml, hown, hts⟩ hG hR hS (m14_timeOf l G K (ov I [(1135, o, j69_i_well), (1137, o, j69_i_empty), (1142, o, j69_i_drawn)]) J X (ova A [((o + 2), a_now), ((o + 10), a_team), ((o + 11), a_rest), ((o + 12), j69_a_load), ((o + 13), a_done), ((o + 14), j69_a_queue), ((o + 15), j69_a_waits)]) B Q o shM p1 i_teamMany v2 a_now (ova_get 0 hN_A rfl) rr3 hrr3) (cwV 3 hts gi_X14_347 rfl rfl rfl hd_X14_timeOf ⟨Nat.le_of_ble_eq_true rfl, Nat.le_of_ble_eq_true rfl⟩) shM.1 rfl rfl hl.1 (Nat.le_of_ble_eq_true rfl) dX14_takesUp_88 ⟨Nat.le_refl _, Nat.le_refl _⟩ rfl (fun H locs hR hS => ?_)
      refine lv_aload_n hx hb dX14_takesUp_91 rfl (lv_at hl 1 rfl) ?_
      refine g_getr (b := (o + 13)) hx hb hts hown hG hR gFx_X14_48_11 shM.1 ((shM.2 12 _ rfl).2) dX14_takesUp_92 ?_
      refine lv_iload_n hx hb dX14_takesUp_95 rfl (lv_at hl 2 rfl) ?_
      obtain ⟨c4, hf⟩ := gd_some hf
      obtain ⟨v5, ev5, hf⟩ := lt_some hf
      refine n_iald (x := a_done) hx hb hG hR k_a_done c4 (ova_get 4 hN_A rfl) ev5 dX14_takesUp_96 ?_
      refine lv_bipush (v := 10) hx hb dX14_takesUp_97 lb_10 ?_
      refine lv_aload_n hx hb dX14_takesUp_99 rfl (lv_at hl 1 rfl) ?_
      refine lv_iload_n hx hb dX14_takesUp_100 rfl (lv_at hl 0 rfl) ?_
      refine lv_iconst (v := 2) hx hb dX14_takesUp_101 li_2 ?_
      obtain ⟨rr6, hrr6, hf⟩ := bind_s hf
      refine g0_cV (rm := (0, 0)) (As := [.int v2, .int (2 : Int32)]) (rest := [.int (10 : Int32), .int v5, .int rr3, .int p1, .ref (o + 11)]) ⟨hx, hb, hml, hown, hts⟩ hG hR hS (m14_manOf l G K (ov I [(1135, o, j69_i_well), (1137, o, j69_i_empty), (1142, o, j69_i_drawn)]) J X (ova A [((o + 2), a_now), ((o + 10), a_team), ((o + 11), a_rest), ((o + 12), j69_a_load), ((o + 13), a_done), ((o + 14), j69_a_queue), ((o + 15), j69_a_waits)]) B Q o shM v2 (2 : Int32) a_now (ova_get 0 hN_A rfl) rr6 hrr6) (cwV 2 hts gi_X14_294 rfl rfl rfl hd_X14_manOf ⟨Nat.le_of_ble_eq_true rfl, Nat.le_of_ble_eq_true rfl⟩) shM.1 rfl rfl hl.1 (Nat.le_of_ble_eq_true rfl) dX14_takesUp_102 ⟨Nat.le_refl _, Nat.le_refl _⟩ rfl (fun H locs hR hS => ?_)
      obtain ⟨v7, ev7, hf⟩ := lt_some hf
      refine n_imul hx hb ev7 dX14_takesUp_105 ?_
      have hj114 : ∀ (j114_s0 : Int32), f14_takesUp_j114 p1 a_rest j69_i_well j69_i_empty j69_i_drawn j69_a_load j69_a_queue j69_a_waits rr3 j114_s0 = some out → ∀ (H : Heap) (locs : List Loc) (ls : Array Slot), RS G K (ov I [(1135, o, j69_i_well), (1137, o, j69_i_empty), (1142, o, j69_i_drawn)]) J X (ova A [((o + 2), a_now), ((o + 10), a_team), ((o + 11), a_rest), ((o + 12), j69_a_load), ((o + 13), a_done), ((o + 14), j69_a_queue), ((o + 15), j69_a_waits)]) B Q H → va_S (gA G) s.heap H locs → lv_has ls 3 [(0, .ref o)] → W p l e ({ frames := 3, cells := 0, slots := 0, locals := 65 } : Room) s m args below meth c H locs 0 0 Z (F0 m 114 ls [.int j114_s0, .int rr3, .int p1, .ref (o + 11)]) := by
        intro j114_s0 hf H locs ls hR hS hl
        unfold f14_takesUp_j114 at hf
        obtain ⟨v8, ev8, hf⟩ := lt_some hf
        refine n_imul hx hb ev8 dX14_takesUp_114 ?_
        obtain ⟨c9, hf⟩ := gd_some hf
        obtain ⟨u10, eu10, hf⟩ := lt_some hf
        refine n_iast (la' := [((o + 2), a_now), ((o + 10), a_team), ((o + 11), u10), ((o + 12), j69_a_load), ((o + 13), a_done), ((o + 14), j69_a_queue), ((o + 15), j69_a_waits)]) hx hb hG hR hS k_a_rest c9 hN_A 2 rfl eu10 rfl dX14_takesUp_115 (fun H locs hR hS => ?_)
        obtain rfl := some_i hf
        exact hend _ _ _ _ dX14_takesUp_116 hR hS
      refine lv_icmp_lt (tgt := 113) hx hb dX14_takesUp_106 (by decide) (fun c11 => ?_) (fun c11 => ?_)
      · have hf := ite_t c11 hf
        refine lv_iconst (v := 1) hx hb dX14_takesUp_113 li_1 ?_
        exact hj114 (1 : Int32) hf _ _ _ hR hS (lv_sub hl [1] rfl)
      · have hf := ite_f c11 hf
        refine lv_iconst (v := 2) hx hb dX14_takesUp_109 li_2 ?_
        refine lv_goto (tgt := 114) hx hb dX14_takesUp_110 (by decide) ?_
        exact hj114 (2 : Int32) hf _ _ _ hR hS (lv_sub hl [1] rfl)
    refine lv_if_ne (tgt := 58) hx hb dX14_takesUp_32 (by decide) (fun c12 => ?_) (fun c12 => ?_)
    · have hf := ite_f c12 hf
      refine lv_aload_n hx hb dX14_takesUp_58 rfl (lv_at hl 0 rfl) ?_
      refine g_getr (b := (o + 12)) hx hb hts hown hG hR gFx_X14_45_11 shM.1 ((shM.2 11 _ rfl).2) dX14_takesUp_59 ?_
      refine lv_iload_n hx hb dX14_takesUp_62 rfl (lv_at hl 1 rfl) ?_
      refine lv_aload_n hx hb dX14_takesUp_63 rfl (lv_at hl 0 rfl) ?_
      refine lv_iload_n hx hb dX14_takesUp_64 rfl (lv_at hl 1 rfl) ?_
      obtain ⟨rr13, hrr13, hf⟩ := bind_s hf
      refine g0_cV (rm := (0, 0)) (As := [.int p1]) (rest := [.int p1, .ref (o + 12)]) ⟨hx, hb, hml, hown, hts⟩ hG hR hS (m14_shift l G K (ov I [(1135, o, i_well), (1137, o, i_empty), (1142, o, i_drawn)]) J X (ova A [((o + 2), a_now), ((o + 10), a_team), ((o + 11), a_rest), ((o + 12), a_load), ((o + 13), a_done), ((o + 14), a_queue), ((o + 15), a_waits)]) B Q o shM p1 a_queue a_waits (ova_get 5 hN_A rfl) (ova_get 6 hN_A rfl) rr13 hrr13) (cwV 1 hts gi_X14_344 rfl rfl rfl hd_X14_shift ⟨Nat.le_of_ble_eq_true rfl, Nat.le_of_ble_eq_true rfl⟩) shM.1 rfl rfl hl.1 (Nat.le_of_ble_eq_true rfl) dX14_takesUp_65 ⟨Nat.le_refl _, Nat.le_refl _⟩ rfl (fun H locs hR hS => ?_)
      have hR : RS G K (ov I [(1135, o, i_well), (1137, o, i_empty), (1142, o, i_drawn)]) J X (ova A [((o + 2), a_now), ((o + 10), a_team), ((o + 11), a_rest), ((o + 12), a_load), ((o + 13), a_done), ((o + 14), rr13.2.1), ((o + 15), rr13.2.2)]) B Q H := hR.to rfl rfl rfl (ova_merge (l := [((o + 2), a_now), ((o + 10), a_team), ((o + 11), a_rest), ((o + 12), a_load), ((o + 13), a_done), ((o + 14), a_queue), ((o + 15), a_waits)]) hN_A [5, 6] [((o + 14), rr13.2.1), ((o + 15), rr13.2.2)] rfl rfl) rfl rfl
      obtain ⟨c14, hf⟩ := gd_some hf
      obtain ⟨u15, eu15, hf⟩ := lt_some hf
      refine n_iast (la' := [((o + 2), a_now), ((o + 10), a_team), ((o + 11), a_rest), ((o + 12), u15), ((o + 13), a_done), ((o + 14), rr13.2.1), ((o + 15), rr13.2.2)]) hx hb hG hR hS k_a_load c14 hN_A 3 rfl eu15 rfl dX14_takesUp_68 (fun H locs hR hS => ?_)
      exact hj69 i_well i_empty i_drawn u15 rr13.2.1 rr13.2.2 hf _ _ _ hR hS (lv_sub hl [0, 1] rfl)
    · have hf := ite_t c12 hf
      refine lv_aload_n hx hb dX14_takesUp_35 rfl (lv_at hl 0 rfl) ?_
      refine lv_dup hx hb dX14_takesUp_36 rfl ?_
      refine n_geti (v := i_empty) hx hb hts hown hG hR gFi_X14_310_11 shM.1 (ov_get 1 rfl rfl) dX14_takesUp_37 ?_
      refine lv_iconst (v := 1) hx hb dX14_takesUp_40 li_1 ?_
      obtain ⟨v16, ev16, hf⟩ := lt_some hf
      refine n_isub hx hb ev16 dX14_takesUp_41 ?_
      refine n_puti (li' := [(1135, o, i_well), (1137, o, v16), (1142, o, i_drawn)]) hx hb hts hown hG hR hS gPi_X14_310_11 shM.1 1 rfl rfl rfl dX14_takesUp_42 (fun H locs hR hS => ?_)
      refine lv_aload_n hx hb dX14_takesUp_45 rfl (lv_at hl 0 rfl) ?_
      refine g_getr (b := (o + 12)) hx hb hts hown hG hR gFx_X14_45_11 shM.1 ((shM.2 11 _ rfl).2) dX14_takesUp_46 ?_
      refine lv_iconst (v := 0) hx hb dX14_takesUp_49 li_0 ?_
      refine lv_aload_n hx hb dX14_takesUp_50 rfl (lv_at hl 0 rfl) ?_
      obtain ⟨rr17, hrr17, hf⟩ := bind_s hf
      refine g0_cV (rm := (0, 0)) (As := []) (rest := [.int (0 : Int32), .ref (o + 12)]) ⟨hx, hb, hml, hown, hts⟩ hG hR hS (m14_draws l G K (ov I [(1135, o, i_well), (1137, o, v16), (1142, o, i_drawn)]) J X (ova A [((o + 2), a_now), ((o + 10), a_team), ((o + 11), a_rest), ((o + 12), a_load), ((o + 13), a_done), ((o + 14), a_queue), ((o + 15), a_waits)]) B Q o shM i_well i_drawn a_now (ov_get 0 rfl rfl) (ov_get 2 rfl rfl) (ova_get 0 hN_A rfl) rr17 hrr17) (cwV 0 hts gi_X14_341 rfl rfl rfl hd_X14_draws ⟨Nat.le_of_ble_eq_true rfl, Nat.le_of_ble_eq_true rfl⟩) shM.1 rfl rfl hl.1 (Nat.le_of_ble_eq_true rfl) dX14_takesUp_51 ⟨Nat.le_refl _, Nat.le_refl _⟩ rfl (fun H locs hR hS => ?_)
      have hR : RS G K (ov I [(1135, o, rr17.2.1), (1137, o, v16), (1142, o, rr17.2.2)]) J X (ova A [((o + 2), a_now), ((o + 10), a_team), ((o + 11), a_rest), ((o + 12), a_load), ((o + 13), a_done), ((o + 14), a_queue), ((o + 15), a_waits)]) B Q H := hR.to (ov_merge (l := [(1135, o, i_well), (1137, o, v16), (1142, o, i_drawn)]) rfl [0, 2] [(1135, o, rr17.2.1), (1142, o, rr17.2.2)] rfl rfl) rfl rfl rfl rfl rfl
      obtain ⟨c18, hf⟩ := gd_some hf
      obtain ⟨u19, eu19, hf⟩ := lt_some hf
      refine n_iast (la' := [((o + 2), a_now), ((o + 10), a_team), ((o + 11), a_rest), ((o + 12), u19), ((o + 13), a_done), ((o + 14), a_queue), ((o + 15), a_waits)]) hx hb hG hR hS k_a_load c18 hN_A 3 rfl eu19 rfl dX14_takesUp_54 (fun H locs hR hS => ?_)
      refine lv_goto (tgt := 69) hx hb dX14_takesUp_55 (by decide) ?_
      exact hj69 rr17.2.1 v16 rr17.2.2 u19 a_queue a_waits hf _ _ _ hR hS (lv_sub hl [0, 1] rfl)
  refine lv_if_ne (tgt := 21) hx hb dX14_takesUp_1 (by decide) (fun c20 => ?_) (fun c20 => ?_)
  · have hf := ite_f c20 hf
    refine lv_aload_n hx hb dX14_takesUp_21 rfl (lv_at hl 0 rfl) ?_
    refine g_getr (b := (o + 15)) hx hb hts hown hG hR gFx_X14_54_11 shM.1 ((shM.2 14 _ rfl).2) dX14_takesUp_22 ?_
    refine lv_iload_n hx hb dX14_takesUp_25 rfl (lv_at hl 1 rfl) ?_
    obtain ⟨c21, hf⟩ := gd_some hf
    obtain ⟨v22, ev22, hf⟩ := lt_some hf
    refine n_iald (x := a_waits) hx hb hG hR k_a_waits c21 (ova_get 6 hN_A rfl) ev22 dX14_takesUp_26 ?_
    refine lv_if_ne (tgt := 31) hx hb dX14_takesUp_27 (by decide) (fun c23 => ?_) (fun c23 => ?_)
    · have hf := ite_f c23 hf
      exact hj31 () hf _ _ _ hR hS (lv_sub hl [0, 1] rfl)
    · have hf := ite_t c23 hf
      obtain rfl := some_i hf
      exact hend _ _ _ _ dX14_takesUp_30 hR hS
  · have hf := ite_t c20 hf
    refine lv_aload_n hx hb dX14_takesUp_4 rfl (lv_at hl 0 rfl) ?_
    refine n_geti (v := i_empty) hx hb hts hown hG hR gFi_X14_310_11 shM.1 (ov_get 1 rfl rfl) dX14_takesUp_5 ?_
    refine lv_if_eq (tgt := 30) hx hb dX14_takesUp_8 (by decide) (fun c24 => ?_) (fun c24 => ?_)
    · have hf := ite_t c24 hf
      obtain rfl := some_i hf
      exact hend _ _ _ _ dX14_takesUp_30 hR hS
    · have hf := ite_f c24 hf
      refine lv_aload_n hx hb dX14_takesUp_11 rfl (lv_at hl 0 rfl) ?_
      refine n_geti (v := i_well) hx hb hts hown hG hR gFi_X14_334_11 shM.1 (ov_get 0 rfl rfl) dX14_takesUp_12 ?_
      refine lv_if_ne (tgt := 31) hx hb dX14_takesUp_15 (by decide) (fun c25 => ?_) (fun c25 => ?_)
      · have hf := ite_f c25 hf
        exact hj31 () hf _ _ _ hR hS (lv_sub hl [0, 1] rfl)
      · have hf := ite_t c25 hf
        refine lv_goto (tgt := 30) hx hb dX14_takesUp_18 (by decide) ?_
        obtain rfl := some_i hf
        exact hend _ _ _ _ dX14_takesUp_30 hR hS
noncomputable def f14_period (i_thrown : Int32) (i_taped : Int32) (i_isBegun : Int32) (i_teamMany : Int32) (a_tape : Nat → Int32) (a_now : Nat → Int32) (a_team : Nat → Int32) : Option (Int32 × Int32 × Int32 × Int32 × Int32 × (Nat → Int32) × (Nat → Int32)) :=
  (f14_takesTeam (2 : Int32) (12 : Int32) (1 : Int32) i_taped i_isBegun i_teamMany a_tape a_now a_team).bind fun rr1 =>
  if rr1.1 = 0 then
    some ((-1 : Int32), (0 : Int32), rr1.2.1, rr1.2.2.1, rr1.2.2.2.1, rr1.2.2.2.2.1, rr1.2.2.2.2.2)
  else
    (f14_periodOf rr1.2.2.2.1 rr1.2.2.2.2.1 rr1.2.2.2.2.2).bind fun rr3 =>
    some (rr3, (0 : Int32), rr1.2.1, rr1.2.2.1, rr1.2.2.2.1, rr1.2.2.2.2.1, rr1.2.2.2.2.2)
set_option maxHeartbeats 4000000 in
theorem m14_period (l : Launch) (G : gG) (K : gK) (I : gI) (J : gJ) (X : gX) (A : gI) (B : gJ) (Q : gX) (o : Nat) (shM : Sh K X o 11 rows11)  (i_thrown : Int32) (i_taped : Int32) (i_isBegun : Int32) (i_teamMany : Int32) (a_tape : Nat → Int32) (a_now : Nat → Int32) (a_team : Nat → Int32) (e_i_thrown : I 1100 o = i_thrown) (e_i_taped : I 1102 o = i_taped) (e_i_isBegun : I 1122 o = i_isBegun) (e_i_teamMany : I 1133 o = i_teamMany) (e_a_tape : A (o + 1) = a_tape) (e_a_now : A (o + 2) = a_now) (e_a_team : A (o + 10) = a_team) (out : Int32 × Int32 × Int32 × Int32 × Int32 × (Nat → Int32) × (Nat → Int32)) (hf : f14_period i_thrown i_taped i_isBegun i_teamMany a_tape a_now a_team = some out) : GMet l yX14_period cX14_period 1 (some .int) (4) (88) G [.ref o] K I J X A B Q (some (.int out.1)) K (ov I [(1100, o, out.2.1), (1102, o, out.2.2.1), (1122, o, out.2.2.2.1), (1133, o, out.2.2.2.2.1)]) J X (ova A [((o + 1), a_tape), ((o + 2), out.2.2.2.2.2.1), ((o + 10), out.2.2.2.2.2.2)]) B Q 0 0 := by
  refine GMet.of (y := yX14_period) rfl (Nat.le_of_ble_eq_true rfl) rfl ?_
  intro p e s m below meth c ls hx hb hr hml hlocks hts hown hname hG hR hl
  have hown : s.vm.findClass RX14 = some m.cls := hown
  have k_a_tape : K (o + 1) = some (.inr (0, 740)) := (shM.2 0 _ rfl).1
  have k_a_now : K (o + 2) = some (.inr (0, 800)) := (shM.2 1 _ rfl).1
  have k_a_team : K (o + 10) = some (.inr (0, 12)) := (shM.2 9 _ rfl).1
  have hN_A : nda [(o + 1), (o + 2), (o + 10)] := nd_off o [1, 2, 10] rfl
  have hR : RS G K (ov I [(1100, o, i_thrown), (1102, o, i_taped), (1122, o, i_isBegun), (1133, o, i_teamMany)]) J X (ova A [((o + 1), a_tape), ((o + 2), a_now), ((o + 10), a_team)]) B Q s.heap := hR.to (Eq.symm (ov_sc e_i_thrown (ov_sc e_i_taped (ov_sc e_i_isBegun (ov_sc e_i_teamMany rfl))))) rfl rfl (Eq.symm (ova_sc e_a_tape (ova_sc e_a_now (ova_sc e_a_team rfl)))) rfl rfl
  have hS : va_S (gA G) s.heap s.heap [] := va_S.rf
  have hend : ∀ (pc : Nat) (H : Heap) (locs : List Loc) (ls : Array Slot), decode cX14_period pc = .ok (.ireturn, 1) → RS G K (ov I [(1100, o, out.2.1), (1102, o, out.2.2.1), (1122, o, out.2.2.2.1), (1133, o, out.2.2.2.2.1)]) J X (ova A [((o + 1), a_tape), ((o + 2), out.2.2.2.2.2.1), ((o + 10), out.2.2.2.2.2.2)]) B Q H → va_S (gA G) s.heap H locs → W p l e ({ frames := 4, cells := 0, slots := 0, locals := 88 } : Room) s m ([.ref o] : List Value).toArray below meth c H locs 0 0 (MQ below (gQ G (some (.int out.1)) K (ov I [(1100, o, out.2.1), (1102, o, out.2.2.1), (1122, o, out.2.2.2.1), (1133, o, out.2.2.2.2.1)]) J X (ova A [((o + 1), a_tape), ((o + 2), out.2.2.2.2.2.1), ((o + 10), out.2.2.2.2.2.2)]) B Q) ([.ref o] : List Value).toArray s 0 0 (gA G)) (F0 m pc ls [.int out.1]) := fun pc H locs ls hd hR hS => g_iret hx hb hr hlocks hG hR hS rfl hd
  generalize MQ below (gQ G (some (.int out.1)) K (ov I [(1100, o, out.2.1), (1102, o, out.2.2.1), (1122, o, out.2.2.2.1), (1133, o, out.2.2.2.2.1)]) J X (ova A [((o + 1), a_tape), ((o + 2), out.2.2.2.2.2.1), ((o + 10), out.2.2.2.2.2.2)]) B Q) ([.ref o] : List Value).toArray s 0 0 (gA G) = Z at hend ⊢
  generalize ([.ref o] : List Value).toArray = args at hts hend ⊢
  unfold f14_period at hf
  refine lv_aload_n hx hb dX14_period_0 rfl (lv_at hl 0 rfl) ?_
  refine lv_iconst (v := 0) hx hb dX14_period_1 li_0 ?_
  refine n_puti (li' := [(1100, o, (0 : Int32)), (1102, o, i_taped), (1122, o, i_isBegun), (1133, o, i_teamMany)]) hx hb hts hown hG hR hS gPi_X14_148_11 shM.1 0 rfl rfl rfl dX14_period_2 (fun H locs hR hS => ?_)
  refine lv_aload_n hx hb dX14_period_5 rfl (lv_at hl 0 rfl) ?_
  refine lv_iconst (v := 2) hx hb dX14_period_6 li_2 ?_
  refine lv_bipush (v := 12) hx hb dX14_period_7 lb_12 ?_
  refine lv_iconst (v := 1) hx hb dX14_period_9 li_1 ?_
  obtain ⟨rr1, hrr1, hf⟩ := bind_s hf
  refine g0_cV (rm := (2, 41)) (As := [.int (2 : Int32), .int (12 : Int32), .int (1 : Int32)]) (rest := []) ⟨hx, hb, hml, hown, hts⟩ hG hR hS (m14_takesTeam l G K (ov I [(1100, o, (0 : Int32)), (1102, o, i_taped), (1122, o, i_isBegun), (1133, o, i_teamMany)]) J X (ova A [((o + 1), a_tape), ((o + 2), a_now), ((o + 10), a_team)]) B Q o shM (2 : Int32) (12 : Int32) (1 : Int32) i_taped i_isBegun i_teamMany a_tape a_now a_team (ov_get 1 rfl rfl) (ov_get 2 rfl rfl) (ov_get 3 rfl rfl) (ova_get 0 hN_A rfl) (ova_get 1 hN_A rfl) (ova_get 2 hN_A rfl) rr1 hrr1) (cwV 3 hts gi_X14_372 rfl rfl rfl hd_X14_takesTeam ⟨Nat.le_of_ble_eq_true rfl, Nat.le_of_ble_eq_true rfl⟩) shM.1 rfl rfl hl.1 (Nat.le_of_ble_eq_true rfl) dX14_period_10 ⟨Nat.le_refl _, Nat.le_refl _⟩ rfl (fun H locs hR hS => ?_)
  have hR : RS G K (ov I [(1100, o, (0 : Int32)), (1102, o, rr1.2.1), (1122, o, rr1.2.2.1), (1133, o, rr1.2.2.2.1)]) J X (ova A [((o + 1), a_tape), ((o + 2), rr1.2.2.2.2.1), ((o + 10), rr1.2.2.2.2.2)]) B Q H := hR.to (ov_merge (l := [(1100, o, (0 : Int32)), (1102, o, i_taped), (1122, o, i_isBegun), (1133, o, i_teamMany)]) rfl [1, 2, 3] [(1102, o, rr1.2.1), (1122, o, rr1.2.2.1), (1133, o, rr1.2.2.2.1)] rfl rfl) rfl rfl (ova_merge (l := [((o + 1), a_tape), ((o + 2), a_now), ((o + 10), a_team)]) hN_A [0, 1, 2] [((o + 1), a_tape), ((o + 2), rr1.2.2.2.2.1), ((o + 10), rr1.2.2.2.2.2)] rfl rfl) rfl rfl
  refine lv_if_eq (tgt := 27) hx hb dX14_period_13 (by decide) (fun c2 => ?_) (fun c2 => ?_)
  · have hf := ite_t c2 hf
    refine lv_iconst (v := -1) hx hb dX14_period_27 li_m1 ?_
    obtain rfl := some_i hf
    exact hend _ _ _ _ dX14_period_28 hR hS
  · have hf := ite_f c2 hf
    refine lv_aload_n hx hb dX14_period_16 rfl (lv_at hl 0 rfl) ?_
    refine lv_aload_n hx hb dX14_period_17 rfl (lv_at hl 0 rfl) ?_
    refine n_geti (v := rr1.2.2.2.1) hx hb hts hown hG hR gFi_X14_304_11 shM.1 (ov_get 3 rfl rfl) dX14_period_18 ?_
    obtain ⟨rr3, hrr3, hf⟩ := bind_s hf
    refine g0_cV (rm := (3, 65)) (As := [.int rr1.2.2.2.1]) (rest := []) ⟨hx, hb, hml, hown, hts⟩ hG hR hS (m14_periodOf l G K (ov I [(1100, o, (0 : Int32)), (1102, o, rr1.2.1), (1122, o, rr1.2.2.1), (1133, o, rr1.2.2.2.1)]) J X (ova A [((o + 1), a_tape), ((o + 2), rr1.2.2.2.2.1), ((o + 10), rr1.2.2.2.2.2)]) B Q o shM rr1.2.2.2.1 rr1.2.2.2.2.1 rr1.2.2.2.2.2 (ova_get 1 hN_A rfl) (ova_get 2 hN_A rfl) rr3 hrr3) (cwV 1 hts gi_X14_383 rfl rfl rfl hd_X14_periodOf ⟨Nat.le_of_ble_eq_true rfl, Nat.le_of_ble_eq_true rfl⟩) shM.1 rfl rfl hl.1 (Nat.le_of_ble_eq_true rfl) dX14_period_21 ⟨Nat.le_refl _, Nat.le_refl _⟩ rfl (fun H locs hR hS => ?_)
    refine lv_goto (tgt := 28) hx hb dX14_period_24 (by decide) ?_
    obtain rfl := some_i hf
    exact hend _ _ _ _ dX14_period_28 hR hS
noncomputable def f14_longest_e1_0 (x1_0 : Int32) : Option (Int32) :=
  some x1_0

noncomputable def f14_longest_j26 (w1_3 : Int32) (j26_2 : Int32) : Option ((Int32 × Int32) ⊕ (Int32)) :=
  lt (w1_3 + (1 : Int32)) fun v5 =>
  some (.inl (j26_2, v5))

noncomputable def f14_longest_s1 (p1 : Int32) (a_now : Nat → Int32) (a_team : Nat → Int32) (a_beside : Nat → Int32) (w1_2 : Int32) (w1_3 : Int32) : Option ((Int32 × Int32) ⊕ (Int32)) :=
  if p1 ≤ w1_3 then
    some (.inr w1_2)
  else
    (f14_shared w1_3 p1 a_now a_team a_beside).bind fun rr3 =>
    (f14_shared w1_2 p1 a_now a_team a_beside).bind fun rr4 =>
    if rr3 ≤ rr4 then
      f14_longest_j26 w1_3 w1_2
    else
      f14_longest_j26 w1_3 w1_3

noncomputable def f14_longest (p1 : Int32) (a_now : Nat → Int32) (a_team : Nat → Int32) (a_beside : Nat → Int32) : Option (Int32) :=
  (whl (fun (s1 : Int32 × Int32) => f14_longest_s1 p1 a_now a_team a_beside s1.1 s1.2) FU ((0 : Int32), (1 : Int32))).bind fun rl1 =>
  f14_longest_e1_0 rl1
set_option maxHeartbeats 4000000 in
theorem m14_longest (l : Launch) (G : gG) (K : gK) (I : gI) (J : gJ) (X : gX) (A : gI) (B : gJ) (Q : gX) (o : Nat) (shM : Sh K X o 11 rows11) (p1 : Int32) (a_now : Nat → Int32) (a_team : Nat → Int32) (a_beside : Nat → Int32) (e_a_now : A (o + 2) = a_now) (e_a_team : A (o + 10) = a_team) (e_a_beside : A (o + 25) = a_beside) (out : Int32) (hf : f14_longest p1 a_now a_team a_beside = some out) : GMet l yX14_longest cX14_longest 4 (some .int) (4) (87) G [.ref o, .int p1] K I J X A B Q (some (.int out)) K I J X A B Q 0 0 := by
  refine GMet.of (y := yX14_longest) rfl (Nat.le_of_ble_eq_true rfl) rfl ?_
  intro p e s m below meth c ls hx hb hr hml hlocks hts hown hname hG hR hl
  have hown : s.vm.findClass RX14 = some m.cls := hown
  have k_a_now : K (o + 2) = some (.inr (0, 800)) := (shM.2 1 _ rfl).1
  have k_a_team : K (o + 10) = some (.inr (0, 12)) := (shM.2 9 _ rfl).1
  have k_a_beside : K (o + 25) = some (.inr (0, 12)) := (shM.2 24 _ rfl).1
  have hR : RS G K I J X A B Q s.heap := hR.to rfl rfl rfl rfl rfl rfl
  have hS : va_S (gA G) s.heap s.heap [] := va_S.rf
  have hend : ∀ (pc : Nat) (H : Heap) (locs : List Loc) (ls : Array Slot), decode cX14_longest pc = .ok (.ireturn, 1) → RS G K I J X A B Q H → va_S (gA G) s.heap H locs → W p l e ({ frames := 4, cells := 0, slots := 0, locals := 87 } : Room) s m ([.ref o, .int p1] : List Value).toArray below meth c H locs 0 0 (MQ below (gQ G (some (.int out)) K I J X A B Q) ([.ref o, .int p1] : List Value).toArray s 0 0 (gA G)) (F0 m pc ls [.int out]) := fun pc H locs ls hd hR hS => g_iret hx hb hr hlocks hG hR hS rfl hd
  generalize MQ below (gQ G (some (.int out)) K I J X A B Q) ([.ref o, .int p1] : List Value).toArray s 0 0 (gA G) = Z at hend ⊢
  generalize ([.ref o, .int p1] : List Value).toArray = args at hts hend ⊢
  unfold f14_longest at hf
  refine lv_iconst (v := 0) hx hb dX14_longest_0 li_0 ?_
  refine lv_istore_n (lv' := [(2, .int (0 : Int32)), (0, .ref o), (1, .int p1)]) hx hb dX14_longest_1 rfl hl (by decide) rfl (fun ls hl => ?_)
  refine lv_iconst (v := 1) hx hb dX14_longest_2 li_1 ?_
  refine lv_istore_n (lv' := [(3, .int (1 : Int32)), (2, .int (0 : Int32)), (0, .ref o), (1, .int p1)]) hx hb dX14_longest_3 rfl hl (by decide) rfl (fun ls hl => ?_)
  obtain ⟨rl1, hw1, hfo1⟩ := bind_s hf
  have hx1_0 : ∀ (x1_0 : Int32), f14_longest_e1_0 x1_0 = some out → ∀ (H : Heap) (locs : List Loc) (ls : Array Slot), RS G K I J X A B Q H → va_S (gA G) s.heap H locs → lv_has ls 4 [(0, .ref o), (2, .int x1_0)] → W p l e ({ frames := 4, cells := 0, slots := 0, locals := 87 } : Room) s m args below meth c H locs 0 0 Z (F0 m 32 ls []) := by
    intro x1_0 hf H locs ls hR hS hl
    unfold f14_longest_e1_0 at hf
    refine lv_iload_n hx hb dX14_longest_32 rfl (lv_at hl 1 rfl) ?_
    obtain rfl := some_i hf
    exact hend _ _ _ _ dX14_longest_33 hR hS
  refine whl_walk (P := fun (s1 : Int32 × Int32) => ∀ (H : Heap) (locs : List Loc) (ls : Array Slot), RS G K I J X A B Q H → va_S (gA G) s.heap H locs → lv_has ls 4 [(0, .ref o), (1, .int p1), (2, .int s1.1), (3, .int s1.2)] → W p l e ({ frames := 4, cells := 0, slots := 0, locals := 87 } : Room) s m args below meth c H locs 0 0 Z (F0 m 4 ls [])) (r := rl1) ?_ FU _ hw1 _ _ _ hR hS (lv_sub hl [2, 3, 1, 0] rfl)
  clear hR hS hl hf
  intro s1 o1 hf hk1 H locs ls hR hS hl
  obtain ⟨w1_2, w1_3⟩ := s1
  have hf : f14_longest_s1 p1 a_now a_team a_beside w1_2 w1_3 = some o1 := hf
  have hR : RS G K I J X A B Q H := hR
  have hl : lv_has ls 4 [(0, .ref o), (1, .int p1), (2, .int w1_2), (3, .int w1_3)] := hl
  unfold f14_longest_s1 at hf
  refine lv_iload_n hx hb dX14_longest_4 rfl (lv_at hl 3 rfl) ?_
  refine lv_iload_n hx hb dX14_longest_5 rfl (lv_at hl 1 rfl) ?_
  refine lv_icmp_ge (tgt := 32) hx hb dX14_longest_6 (by decide) (fun c2 => ?_) (fun c2 => ?_)
  · have hf := ite_t c2 hf
    obtain rfl := some_i hf
    replace hk1 : _ = rl1 := hk1
    subst hk1
    exact hx1_0 w1_2 hfo1 _ _ _ hR hS (lv_sub hl [0, 2] rfl)
  · have hf := ite_f c2 hf
    refine lv_aload_n hx hb dX14_longest_9 rfl (lv_at hl 0 rfl) ?_
    refine lv_iload_n hx hb dX14_longest_10 rfl (lv_at hl 3 rfl) ?_
    refine lv_iload_n hx hb dX14_longest_11 rfl (lv_at hl 1 rfl) ?_
    obtain ⟨rr3, hrr3, hf⟩ := bind_s hf
    refine g0_cV (rm := (3, 65)) (As := [.int w1_3, .int p1]) (rest := []) ⟨hx, hb, hml, hown, hts⟩ hG hR hS (m14_shared l G K I J X A B Q o shM w1_3 p1 a_now a_team a_beside e_a_now e_a_team e_a_beside rr3 hrr3) (cwV 2 hts gi_X14_399 rfl rfl rfl hd_X14_shared ⟨Nat.le_of_ble_eq_true rfl, Nat.le_of_ble_eq_true rfl⟩) shM.1 rfl rfl hl.1 (Nat.le_of_ble_eq_true rfl) dX14_longest_12 ⟨Nat.le_refl _, Nat.le_refl _⟩ rfl (fun H locs hR hS => ?_)
    refine lv_aload_n hx hb dX14_longest_15 rfl (lv_at hl 0 rfl) ?_
    refine lv_iload_n hx hb dX14_longest_16 rfl (lv_at hl 2 rfl) ?_
    refine lv_iload_n hx hb dX14_longest_17 rfl (lv_at hl 1 rfl) ?_
    obtain ⟨rr4, hrr4, hf⟩ := bind_s hf
    refine g0_cV (rm := (3, 65)) (As := [.int w1_2, .int p1]) (rest := [.int rr3]) ⟨hx, hb, hml, hown, hts⟩ hG hR hS (m14_shared l G K I J X A B Q o shM w1_2 p1 a_now a_team a_beside e_a_now e_a_team e_a_beside rr4 hrr4) (cwV 2 hts gi_X14_399 rfl rfl rfl hd_X14_shared ⟨Nat.le_of_ble_eq_true rfl, Nat.le_of_ble_eq_true rfl⟩) shM.1 rfl rfl hl.1 (Nat.le_of_ble_eq_true rfl) dX14_longest_18 ⟨Nat.le_refl _, Nat.le_refl _⟩ rfl (fun H locs hR hS => ?_)
    have hj26 : ∀ (j26_2 : Int32), f14_longest_j26 w1_3 j26_2 = some o1 → ∀ (H : Heap) (locs : List Loc) (ls : Array Slot), RS G K I J X A B Q H → va_S (gA G) s.heap H locs → lv_has ls 4 [(0, .ref o), (1, .int p1), (2, .int j26_2), (3, .int w1_3)] → W p l e ({ frames := 4, cells := 0, slots := 0, locals := 87 } : Room) s m args below meth c H locs 0 0 Z (F0 m 26 ls []) := by
      intro j26_2 hf H locs ls hR hS hl
      unfold f14_longest_j26 at hf
      obtain ⟨v5, ev5, hf⟩ := lt_some hf
      refine lv_iinc (k := 3) (v := v5) (lv' := [(3, .int v5), (0, .ref o), (1, .int p1), (2, .int j26_2)]) hx hb dX14_longest_26 hl rfl (by rw [ev5]; rfl) (by decide) rfl (fun ls hl => ?_)
      refine lv_goto (tgt := 4) hx hb dX14_longest_29 (by decide) ?_
      obtain rfl := some_i hf
      exact hk1 _ _ _ hR hS (lv_sub hl [1, 2, 3, 0] rfl)
    refine lv_icmp_le (tgt := 26) hx hb dX14_longest_21 (by decide) (fun c6 => ?_) (fun c6 => ?_)
    · have hf := ite_t c6 hf
      exact hj26 w1_2 hf _ _ _ hR hS (lv_sub hl [0, 1, 2, 3] rfl)
    · have hf := ite_f c6 hf
      refine lv_iload_n hx hb dX14_longest_24 rfl (lv_at hl 3 rfl) ?_
      refine lv_istore_n (lv' := [(2, .int w1_3), (0, .ref o), (1, .int p1), (3, .int w1_3)]) hx hb dX14_longest_25 rfl hl (by decide) rfl (fun ls hl => ?_)
      exact hj26 w1_3 hf _ _ _ hR hS (lv_sub hl [1, 2, 0, 3] rfl)
noncomputable def f14_fires_e2_0 (x2_0 : Int32 × Int32 × (Nat → Int32) × (Nat → Int32) × (Nat → Int32) × (Nat → Int32) × (Nat → Int32) × (Nat → Int32)) : Option (Int32 × Int32 × (Nat → Int32) × (Nat → Int32) × (Nat → Int32) × (Nat → Int32) × (Nat → Int32) × (Nat → Int32)) :=
  some x2_0

noncomputable def f14_fires_j147 (w2_5 : Int32) (x4_0 : (Nat → Int32) × (Nat → Int32)) (rr7 : Int32 × (Nat → Int32) × (Nat → Int32) × (Nat → Int32) × (Nat → Int32)) (j147_i_outAt : Int32) : Option ((Int32 × Int32 × Int32 × (Nat → Int32) × (Nat → Int32) × (Nat → Int32) × (Nat → Int32) × (Nat → Int32) × (Nat → Int32)) ⊕ (Int32 × Int32 × (Nat → Int32) × (Nat → Int32) × (Nat → Int32) × (Nat → Int32) × (Nat → Int32) × (Nat → Int32))) :=
  lt (w2_5 + (1 : Int32)) fun v8 =>
  some (.inl (v8, rr7.1, j147_i_outAt, rr7.2.1, rr7.2.2.1, rr7.2.2.2.1, rr7.2.2.2.2, x4_0.1, x4_0.2))

noncomputable def f14_fires_j99 (p2 : Int32) (p3 : Int32) (a_now : Nat → Int32) (w2_5 : Int32) (w2_i_lost : Int32) (w2_i_outAt : Int32) (w2_a_fuel : Nat → Int32) (w2_a_burn : Nat → Int32) (w2_a_wet : Nat → Int32) (w2_a_heat : Nat → Int32) (x4_0 : (Nat → Int32) × (Nat → Int32)) (j99_s0 : Int32) : Option ((Int32 × Int32 × Int32 × (Nat → Int32) × (Nat → Int32) × (Nat → Int32) × (Nat → Int32) × (Nat → Int32) × (Nat → Int32)) ⊕ (Int32 × Int32 × (Nat → Int32) × (Nat → Int32) × (Nat → Int32) × (Nat → Int32) × (Nat → Int32) × (Nat → Int32))) :=
  lt ((64 : Int32) * j99_s0) fun v5 =>
  (f14_aimed p3 v5 3904 3904 a_now x4_0.1 x4_0.2).bind fun rr6 =>
  (f14_minute rr6 p2 w2_i_lost a_now w2_a_fuel w2_a_burn w2_a_wet w2_a_heat).bind fun rr7 =>
  if w2_i_outAt = (-1 : Int32) then
    (f14_burning a_now rr7.2.2.1).bind fun rr10 =>
    if rr10 = 0 then
      lt (w2_5 + (1 : Int32)) fun v12 =>
      f14_fires_j147 w2_5 x4_0 rr7 v12
    else
      f14_fires_j147 w2_5 x4_0 rr7 w2_i_outAt
  else
    f14_fires_j147 w2_5 x4_0 rr7 w2_i_outAt

noncomputable def f14_fires_e4_0 (p2 : Int32) (p3 : Int32) (p4 : Int32) (a_now : Nat → Int32) (w2_5 : Int32) (w2_i_lost : Int32) (w2_i_outAt : Int32) (w2_a_fuel : Nat → Int32) (w2_a_burn : Nat → Int32) (w2_a_wet : Nat → Int32) (w2_a_heat : Nat → Int32) (x4_0 : (Nat → Int32) × (Nat → Int32)) : Option ((Int32 × Int32 × Int32 × (Nat → Int32) × (Nat → Int32) × (Nat → Int32) × (Nat → Int32) × (Nat → Int32) × (Nat → Int32)) ⊕ (Int32 × Int32 × (Nat → Int32) × (Nat → Int32) × (Nat → Int32) × (Nat → Int32) × (Nat → Int32) × (Nat → Int32))) :=
  if p4 ≤ w2_5 then
    lt (w2_5 - p4) fun v14 =>
    f14_fires_j99 p2 p3 a_now w2_5 w2_i_lost w2_i_outAt w2_a_fuel w2_a_burn w2_a_wet w2_a_heat x4_0 v14
  else
    f14_fires_j99 p2 p3 a_now w2_5 w2_i_lost w2_i_outAt w2_a_fuel w2_a_burn w2_a_wet w2_a_heat x4_0 (0 : Int32)

noncomputable def f14_fires_s4 (a_now : Nat → Int32) (w2_5 : Int32) (w2_a_fuel : Nat → Int32) (w2_a_burn : Nat → Int32) (w4_6 : Int32) (w4_a_fuelWas : Nat → Int32) (w4_a_burnWas : Nat → Int32) : Option ((Int32 × (Nat → Int32) × (Nat → Int32)) ⊕ ((Nat → Int32) × (Nat → Int32))) :=
  (f14_cells a_now).bind fun rr15 =>
  if rr15 ≤ w4_6 then
    some (.inr (w4_a_fuelWas, w4_a_burnWas))
  else
    lt ((64 : Int32) * w2_5) fun v17 =>
    lt (v17 + w4_6) fun v18 =>
    gd (inb w4_6 64) <|
    lt (w2_a_fuel w4_6.toNatClampNeg) fun v20 =>
    gd (inb v18 3904) <|
    lt (upd w4_a_fuelWas v18.toNatClampNeg v20) fun u22 =>
    lt ((64 : Int32) * w2_5) fun v23 =>
    lt (v23 + w4_6) fun v24 =>
    gd (inb w4_6 64) <|
    lt (w2_a_burn w4_6.toNatClampNeg) fun v26 =>
    gd (inb v24 3904) <|
    lt (upd w4_a_burnWas v24.toNatClampNeg v26) fun u28 =>
    lt (w4_6 + (1 : Int32)) fun v29 =>
    some (.inl (v29, u22, u28))

noncomputable def f14_fires_s2 (p1 : Int32) (p2 : Int32) (p3 : Int32) (p4 : Int32) (a_now : Nat → Int32) (w2_5 : Int32) (w2_i_lost : Int32) (w2_i_outAt : Int32) (w2_a_fuel : Nat → Int32) (w2_a_burn : Nat → Int32) (w2_a_wet : Nat → Int32) (w2_a_heat : Nat → Int32) (w2_a_fuelWas : Nat → Int32) (w2_a_burnWas : Nat → Int32) : Option ((Int32 × Int32 × Int32 × (Nat → Int32) × (Nat → Int32) × (Nat → Int32) × (Nat → Int32) × (Nat → Int32) × (Nat → Int32)) ⊕ (Int32 × Int32 × (Nat → Int32) × (Nat → Int32) × (Nat → Int32) × (Nat → Int32) × (Nat → Int32) × (Nat → Int32))) :=
  if p1 ≤ w2_5 then
    some (.inr (w2_i_lost, w2_i_outAt, w2_a_fuel, w2_a_burn, w2_a_wet, w2_a_heat, w2_a_fuelWas, w2_a_burnWas))
  else
    (whl (fun (s4 : Int32 × (Nat → Int32) × (Nat → Int32)) => f14_fires_s4 a_now w2_5 w2_a_fuel w2_a_burn s4.1 s4.2.1 s4.2.2) FU ((0 : Int32), w2_a_fuelWas, w2_a_burnWas)).bind fun rl4 =>
    f14_fires_e4_0 p2 p3 p4 a_now w2_5 w2_i_lost w2_i_outAt w2_a_fuel w2_a_burn w2_a_wet w2_a_heat rl4

noncomputable def f14_fires_j13 (p1 : Int32) (p2 : Int32) (p3 : Int32) (p4 : Int32) (i_lost : Int32) (a_now : Nat → Int32) (a_fuel : Nat → Int32) (a_burn : Nat → Int32) (a_wet : Nat → Int32) (a_heat : Nat → Int32) (a_fuelWas : Nat → Int32) (a_burnWas : Nat → Int32) (j13_s0 : Int32) : Option (Int32 × Int32 × (Nat → Int32) × (Nat → Int32) × (Nat → Int32) × (Nat → Int32) × (Nat → Int32) × (Nat → Int32)) :=
  (whl (fun (s2 : Int32 × Int32 × Int32 × (Nat → Int32) × (Nat → Int32) × (Nat → Int32) × (Nat → Int32) × (Nat → Int32) × (Nat → Int32)) => f14_fires_s2 p1 p2 p3 p4 a_now s2.1 s2.2.1 s2.2.2.1 s2.2.2.2.1 s2.2.2.2.2.1 s2.2.2.2.2.2.1 s2.2.2.2.2.2.2.1 s2.2.2.2.2.2.2.2.1 s2.2.2.2.2.2.2.2.2) FU ((0 : Int32), i_lost, j13_s0, a_fuel, a_burn, a_wet, a_heat, a_fuelWas, a_burnWas)).bind fun rl2 =>
  f14_fires_e2_0 rl2

noncomputable def f14_fires (p1 : Int32) (p2 : Int32) (p3 : Int32) (p4 : Int32) (i_lost : Int32) (i_outAt : Int32) (a_now : Nat → Int32) (a_fuel : Nat → Int32) (a_burn : Nat → Int32) (a_wet : Nat → Int32) (a_heat : Nat → Int32) (a_fuelWas : Nat → Int32) (a_burnWas : Nat → Int32) : Option (Int32 × Int32 × (Nat → Int32) × (Nat → Int32) × (Nat → Int32) × (Nat → Int32) × (Nat → Int32) × (Nat → Int32)) :=
  (f14_burning a_now a_burn).bind fun rr1 =>
  if rr1 = 0 then
    f14_fires_j13 p1 p2 p3 p4 i_lost a_now a_fuel a_burn a_wet a_heat a_fuelWas a_burnWas (0 : Int32)
  else
    f14_fires_j13 p1 p2 p3 p4 i_lost a_now a_fuel a_burn a_wet a_heat a_fuelWas a_burnWas (-1 : Int32)
set_option maxHeartbeats 4000000 in
theorem m14_fires (l : Launch) (G : gG) (K : gK) (I : gI) (J : gJ) (X : gX) (A : gI) (B : gJ) (Q : gX) (o : Nat) (shM : Sh K X o 11 rows11) (p1 : Int32) (p2 : Int32) (p3 : Int32) (p4 : Int32) (i_lost : Int32) (i_outAt : Int32) (a_now : Nat → Int32) (a_fuel : Nat → Int32) (a_burn : Nat → Int32) (a_wet : Nat → Int32) (a_heat : Nat → Int32) (a_fuelWas : Nat → Int32) (a_burnWas : Nat → Int32) (e_i_lost : I 1170 o = i_lost) (e_i_outAt : I 1171 o = i_outAt) (e_a_now : A (o + 2) = a_now) (e_a_fuel : A (o + 32) = a_fuel) (e_a_burn : A (o + 33) = a_burn) (e_a_wet : A (o + 34) = a_wet) (e_a_heat : A (o + 35) = a_heat) (e_a_fuelWas : A (o + 36) = a_fuelWas) (e_a_burnWas : A (o + 37) = a_burnWas) (out : Int32 × Int32 × (Nat → Int32) × (Nat → Int32) × (Nat → Int32) × (Nat → Int32) × (Nat → Int32) × (Nat → Int32)) (hf : f14_fires p1 p2 p3 p4 i_lost i_outAt a_now a_fuel a_burn a_wet a_heat a_fuelWas a_burnWas = some out) : GMet l yX14_fires cX14_fires 7 none (4) (100) G [.ref o, .int p1, .int p2, .int p3, .int p4] K I J X A B Q none K (ov I [(1170, o, out.1), (1171, o, out.2.1)]) J X (ova A [((o + 2), a_now), ((o + 32), out.2.2.1), ((o + 33), out.2.2.2.1), ((o + 34), out.2.2.2.2.1), ((o + 35), out.2.2.2.2.2.1), ((o + 36), out.2.2.2.2.2.2.1), ((o + 37), out.2.2.2.2.2.2.2)]) B Q 0 0 := by
  refine GMet.of (y := yX14_fires) rfl (Nat.le_of_ble_eq_true rfl) rfl ?_
  intro p e s m below meth c ls hx hb hr hml hlocks hts hown hname hG hR hl
  have hown : s.vm.findClass RX14 = some m.cls := hown
  have k_a_now : K (o + 2) = some (.inr (0, 800)) := (shM.2 1 _ rfl).1
  have k_a_fuel : K (o + 32) = some (.inr (0, 64)) := (shM.2 31 _ rfl).1
  have k_a_burn : K (o + 33) = some (.inr (0, 64)) := (shM.2 32 _ rfl).1
  have k_a_wet : K (o + 34) = some (.inr (0, 64)) := (shM.2 33 _ rfl).1
  have k_a_heat : K (o + 35) = some (.inr (0, 64)) := (shM.2 34 _ rfl).1
  have k_a_fuelWas : K (o + 36) = some (.inr (0, 3904)) := (shM.2 35 _ rfl).1
  have k_a_burnWas : K (o + 37) = some (.inr (0, 3904)) := (shM.2 36 _ rfl).1
  have hN_A : nda [(o + 2), (o + 32), (o + 33), (o + 34), (o + 35), (o + 36), (o + 37)] := nd_off o [2, 32, 33, 34, 35, 36, 37] rfl
  have hR : RS G K (ov I [(1170, o, i_lost), (1171, o, i_outAt)]) J X (ova A [((o + 2), a_now), ((o + 32), a_fuel), ((o + 33), a_burn), ((o + 34), a_wet), ((o + 35), a_heat), ((o + 36), a_fuelWas), ((o + 37), a_burnWas)]) B Q s.heap := hR.to (Eq.symm (ov_sc e_i_lost (ov_sc e_i_outAt rfl))) rfl rfl (Eq.symm (ova_sc e_a_now (ova_sc e_a_fuel (ova_sc e_a_burn (ova_sc e_a_wet (ova_sc e_a_heat (ova_sc e_a_fuelWas (ova_sc e_a_burnWas rfl)))))))) rfl rfl
  have hS : va_S (gA G) s.heap s.heap [] := va_S.rf
  have hend : ∀ (pc : Nat) (H : Heap) (locs : List Loc) (ls : Array Slot), decode cX14_fires pc = .ok (.return_, 1) → RS G K (ov I [(1170, o, out.1), (1171, o, out.2.1)]) J X (ova A [((o + 2), a_now), ((o + 32), out.2.2.1), ((o + 33), out.2.2.2.1), ((o + 34), out.2.2.2.2.1), ((o + 35), out.2.2.2.2.2.1), ((o + 36), out.2.2.2.2.2.2.1), ((o + 37), out.2.2.2.2.2.2.2)]) B Q H → va_S (gA G) s.heap H locs → W p l e ({ frames := 4, cells := 0, slots := 0, locals := 100 } : Room) s m ([.ref o, .int p1, .int p2, .int p3, .int p4] : List Value).toArray below meth c H locs 0 0 (MQ below (gQ G none K (ov I [(1170, o, out.1), (1171, o, out.2.1)]) J X (ova A [((o + 2), a_now), ((o + 32), out.2.2.1), ((o + 33), out.2.2.2.1), ((o + 34), out.2.2.2.2.1), ((o + 35), out.2.2.2.2.2.1), ((o + 36), out.2.2.2.2.2.2.1), ((o + 37), out.2.2.2.2.2.2.2)]) B Q) ([.ref o, .int p1, .int p2, .int p3, .int p4] : List Value).toArray s 0 0 (gA G)) (F0 m pc ls []) := fun pc H locs ls hd hR hS => g_vret hx hb hr hlocks hG hR hS rfl hd
  generalize MQ below (gQ G none K (ov I [(1170, o, out.1), (1171, o, out.2.1)]) J X (ova A [((o + 2), a_now), ((o + 32), out.2.2.1), ((o + 33), out.2.2.2.1), ((o + 34), out.2.2.2.2.1), ((o + 35), out.2.2.2.2.2.1), ((o + 36), out.2.2.2.2.2.2.1), ((o + 37), out.2.2.2.2.2.2.2)]) B Q) ([.ref o, .int p1, .int p2, .int p3, .int p4] : List Value).toArray s 0 0 (gA G) = Z at hend ⊢
  generalize ([.ref o, .int p1, .int p2, .int p3, .int p4] : List Value).toArray = args at hts hend ⊢
  unfold f14_fires at hf
  refine lv_aload_n hx hb dX14_fires_0 rfl (lv_at hl 0 rfl) ?_
  refine lv_aload_n hx hb dX14_fires_1 rfl (lv_at hl 0 rfl) ?_
  obtain ⟨rr1, hrr1, hf⟩ := bind_s hf
  refine g0_cV (rm := (1, 20)) (As := []) (rest := [.ref o]) ⟨hx, hb, hml, hown, hts⟩ hG hR hS (m14_burning l G K (ov I [(1170, o, i_lost), (1171, o, i_outAt)]) J X (ova A [((o + 2), a_now), ((o + 32), a_fuel), ((o + 33), a_burn), ((o + 34), a_wet), ((o + 35), a_heat), ((o + 36), a_fuelWas), ((o + 37), a_burnWas)]) B Q o shM a_now a_burn (ova_get 0 hN_A rfl) (ova_get 2 hN_A rfl) rr1 hrr1) (cwV 0 hts gi_X14_436 rfl rfl rfl hd_X14_burning ⟨Nat.le_of_ble_eq_true rfl, Nat.le_of_ble_eq_true rfl⟩) shM.1 rfl rfl hl.1 (Nat.le_of_ble_eq_true rfl) dX14_fires_2 ⟨Nat.le_refl _, Nat.le_refl _⟩ rfl (fun H locs hR hS => ?_)
  have hj13 : ∀ (j13_s0 : Int32), f14_fires_j13 p1 p2 p3 p4 i_lost a_now a_fuel a_burn a_wet a_heat a_fuelWas a_burnWas j13_s0 = some out → ∀ (H : Heap) (locs : List Loc) (ls : Array Slot), RS G K (ov I [(1170, o, i_lost), (1171, o, i_outAt)]) J X (ova A [((o + 2), a_now), ((o + 32), a_fuel), ((o + 33), a_burn), ((o + 34), a_wet), ((o + 35), a_heat), ((o + 36), a_fuelWas), ((o + 37), a_burnWas)]) B Q H → va_S (gA G) s.heap H locs → lv_has ls 7 [(0, .ref o), (1, .int p1), (2, .int p2), (3, .int p3), (4, .int p4)] → W p l e ({ frames := 4, cells := 0, slots := 0, locals := 100 } : Room) s m args below meth c H locs 0 0 Z (F0 m 13 ls [.int j13_s0, .ref o]) := by
    intro j13_s0 hf H locs ls hR hS hl
    unfold f14_fires_j13 at hf
    refine n_puti (li' := [(1170, o, i_lost), (1171, o, j13_s0)]) hx hb hts hown hG hR hS gPi_X14_439_11 shM.1 1 rfl rfl rfl dX14_fires_13 (fun H locs hR hS => ?_)
    refine lv_iconst (v := 0) hx hb dX14_fires_16 li_0 ?_
    refine lv_istore (lv' := [(5, .int (0 : Int32)), (0, .ref o), (1, .int p1), (2, .int p2), (3, .int p3), (4, .int p4)]) hx hb dX14_fires_17 hl (by decide) rfl (fun ls hl => ?_)
    obtain ⟨rl2, hw2, hfo2⟩ := bind_s hf
    have hx2_0 : ∀ (x2_0 : Int32 × Int32 × (Nat → Int32) × (Nat → Int32) × (Nat → Int32) × (Nat → Int32) × (Nat → Int32) × (Nat → Int32)), f14_fires_e2_0 x2_0 = some out → ∀ (pc : Nat) (H : Heap) (locs : List Loc) (ls : Array Slot), decode cX14_fires pc = .ok (.return_, 1) → RS G K (ov I [(1170, o, x2_0.1), (1171, o, x2_0.2.1)]) J X (ova A [((o + 2), a_now), ((o + 32), x2_0.2.2.1), ((o + 33), x2_0.2.2.2.1), ((o + 34), x2_0.2.2.2.2.1), ((o + 35), x2_0.2.2.2.2.2.1), ((o + 36), x2_0.2.2.2.2.2.2.1), ((o + 37), x2_0.2.2.2.2.2.2.2)]) B Q H → va_S (gA G) s.heap H locs → W p l e ({ frames := 4, cells := 0, slots := 0, locals := 100 } : Room) s m args below meth c H locs 0 0 Z (F0 m pc ls []) := by
      intro x2_0 hf pc H locs ls hd hR hS
      unfold f14_fires_e2_0 at hf
      obtain rfl := some_i hf
      exact hend _ _ _ _ hd hR hS
    refine whl_walk (P := fun (s2 : Int32 × Int32 × Int32 × (Nat → Int32) × (Nat → Int32) × (Nat → Int32) × (Nat → Int32) × (Nat → Int32) × (Nat → Int32)) => ∀ (H : Heap) (locs : List Loc) (ls : Array Slot), RS G K (ov I [(1170, o, s2.2.1), (1171, o, s2.2.2.1)]) J X (ova A [((o + 2), a_now), ((o + 32), s2.2.2.2.1), ((o + 33), s2.2.2.2.2.1), ((o + 34), s2.2.2.2.2.2.1), ((o + 35), s2.2.2.2.2.2.2.1), ((o + 36), s2.2.2.2.2.2.2.2.1), ((o + 37), s2.2.2.2.2.2.2.2.2)]) B Q H → va_S (gA G) s.heap H locs → lv_has ls 7 [(0, .ref o), (1, .int p1), (2, .int p2), (3, .int p3), (4, .int p4), (5, .int s2.1)] → W p l e ({ frames := 4, cells := 0, slots := 0, locals := 100 } : Room) s m args below meth c H locs 0 0 Z (F0 m 19 ls [])) (r := rl2) ?_ FU _ hw2 _ _ _ hR hS (lv_sub hl [1, 2, 3, 4, 5, 0] rfl)
    clear hR hS hl hf
    intro s2 o2 hf hk2 H locs ls hR hS hl
    obtain ⟨w2_5, w2_i_lost, w2_i_outAt, w2_a_fuel, w2_a_burn, w2_a_wet, w2_a_heat, w2_a_fuelWas, w2_a_burnWas⟩ := s2
    have hf : f14_fires_s2 p1 p2 p3 p4 a_now w2_5 w2_i_lost w2_i_outAt w2_a_fuel w2_a_burn w2_a_wet w2_a_heat w2_a_fuelWas w2_a_burnWas = some o2 := hf
    have hR : RS G K (ov I [(1170, o, w2_i_lost), (1171, o, w2_i_outAt)]) J X (ova A [((o + 2), a_now), ((o + 32), w2_a_fuel), ((o + 33), w2_a_burn), ((o + 34), w2_a_wet), ((o + 35), w2_a_heat), ((o + 36), w2_a_fuelWas), ((o + 37), w2_a_burnWas)]) B Q H := hR
    have hl : lv_has ls 7 [(0, .ref o), (1, .int p1), (2, .int p2), (3, .int p3), (4, .int p4), (5, .int w2_5)] := hl
    unfold f14_fires_s2 at hf
    refine lv_iload hx hb dX14_fires_19 (lv_at hl 5 rfl) ?_
    refine lv_iload_n hx hb dX14_fires_21 rfl (lv_at hl 1 rfl) ?_
    refine lv_icmp_ge (tgt := 153) hx hb dX14_fires_22 (by decide) (fun c3 => ?_) (fun c3 => ?_)
    · have hf := ite_t c3 hf
      obtain rfl := some_i hf
      replace hk2 : _ = rl2 := hk2
      subst hk2
      exact hx2_0 (w2_i_lost, w2_i_outAt, w2_a_fuel, w2_a_burn, w2_a_wet, w2_a_heat, w2_a_fuelWas, w2_a_burnWas) hfo2 _ _ _ _ dX14_fires_153 hR hS
    · have hf := ite_f c3 hf
      refine lv_iconst (v := 0) hx hb dX14_fires_25 li_0 ?_
      refine lv_istore (lv' := [(6, .int (0 : Int32)), (0, .ref o), (1, .int p1), (2, .int p2), (3, .int p3), (4, .int p4), (5, .int w2_5)]) hx hb dX14_fires_26 hl (by decide) rfl (fun ls hl => ?_)
      obtain ⟨rl4, hw4, hfo4⟩ := bind_s hf
      have hx4_0 : ∀ (x4_0 : (Nat → Int32) × (Nat → Int32)), f14_fires_e4_0 p2 p3 p4 a_now w2_5 w2_i_lost w2_i_outAt w2_a_fuel w2_a_burn w2_a_wet w2_a_heat x4_0 = some o2 → ∀ (H : Heap) (locs : List Loc) (ls : Array Slot), RS G K (ov I [(1170, o, w2_i_lost), (1171, o, w2_i_outAt)]) J X (ova A [((o + 2), a_now), ((o + 32), w2_a_fuel), ((o + 33), w2_a_burn), ((o + 34), w2_a_wet), ((o + 35), w2_a_heat), ((o + 36), x4_0.1), ((o + 37), x4_0.2)]) B Q H → va_S (gA G) s.heap H locs → lv_has ls 7 [(0, .ref o), (1, .int p1), (2, .int p2), (3, .int p3), (4, .int p4), (5, .int w2_5)] → W p l e ({ frames := 4, cells := 0, slots := 0, locals := 100 } : Room) s m args below meth c H locs 0 0 Z (F0 m 83 ls []) := by
        intro x4_0 hf H locs ls hR hS hl
        unfold f14_fires_e4_0 at hf
        refine lv_iload hx hb dX14_fires_83 (lv_at hl 5 rfl) ?_
        refine lv_iload hx hb dX14_fires_85 (lv_at hl 4 rfl) ?_
        have hj99 : ∀ (j99_s0 : Int32), f14_fires_j99 p2 p3 a_now w2_5 w2_i_lost w2_i_outAt w2_a_fuel w2_a_burn w2_a_wet w2_a_heat x4_0 j99_s0 = some o2 → ∀ (H : Heap) (locs : List Loc) (ls : Array Slot), RS G K (ov I [(1170, o, w2_i_lost), (1171, o, w2_i_outAt)]) J X (ova A [((o + 2), a_now), ((o + 32), w2_a_fuel), ((o + 33), w2_a_burn), ((o + 34), w2_a_wet), ((o + 35), w2_a_heat), ((o + 36), x4_0.1), ((o + 37), x4_0.2)]) B Q H → va_S (gA G) s.heap H locs → lv_has ls 7 [(0, .ref o), (1, .int p1), (2, .int p2), (3, .int p3), (4, .int p4), (5, .int w2_5)] → W p l e ({ frames := 4, cells := 0, slots := 0, locals := 100 } : Room) s m args below meth c H locs 0 0 Z (F0 m 99 ls [.int j99_s0]) := by
          intro j99_s0 hf H locs ls hR hS hl
          unfold f14_fires_j99 at hf
          refine lv_istore (lv' := [(6, .int j99_s0), (0, .ref o), (1, .int p1), (2, .int p2), (3, .int p3), (4, .int p4), (5, .int w2_5)]) hx hb dX14_fires_99 hl (by decide) rfl (fun ls hl => ?_)
          refine lv_aload_n hx hb dX14_fires_101 rfl (lv_at hl 1 rfl) ?_
          refine lv_aload_n hx hb dX14_fires_102 rfl (lv_at hl 1 rfl) ?_
          refine lv_iload_n hx hb dX14_fires_103 rfl (lv_at hl 4 rfl) ?_
          refine lv_aload_n hx hb dX14_fires_104 rfl (lv_at hl 1 rfl) ?_
          refine g_getr (b := (o + 36)) hx hb hts hown hG hR gFx_X14_117_11 shM.1 ((shM.2 35 _ rfl).2) dX14_fires_105 ?_
          refine lv_aload_n hx hb dX14_fires_108 rfl (lv_at hl 1 rfl) ?_
          refine g_getr (b := (o + 37)) hx hb hts hown hG hR gFx_X14_120_11 shM.1 ((shM.2 36 _ rfl).2) dX14_fires_109 ?_
          refine lv_bipush (v := 64) hx hb dX14_fires_112 lb_64 ?_
          refine lv_iload hx hb dX14_fires_114 (lv_at hl 0 rfl) ?_
          obtain ⟨v5, ev5, hf⟩ := lt_some hf
          refine n_imul hx hb ev5 dX14_fires_116 ?_
          obtain ⟨rr6, hrr6, hf⟩ := bind_s hf
          refine g0_cV (rm := (3, 72)) (As := [.int p3, .ref (o + 36), .ref (o + 37), .int v5]) (rest := [.ref o]) ⟨hx, hb, hml, hown, hts⟩ hG hR hS (m14_aimed l G K (ov I [(1170, o, w2_i_lost), (1171, o, w2_i_outAt)]) J X (ova A [((o + 2), a_now), ((o + 32), w2_a_fuel), ((o + 33), w2_a_burn), ((o + 34), w2_a_wet), ((o + 35), w2_a_heat), ((o + 36), x4_0.1), ((o + 37), x4_0.2)]) B Q o shM (o + 36) 3904 k_a_fuelWas (o + 37) 3904 k_a_burnWas p3 v5 a_now x4_0.1 x4_0.2 (ova_get 0 hN_A rfl) (ova_get 5 hN_A rfl) (ova_get 6 hN_A rfl) rr6 hrr6) (cwV 4 hts gi_X14_442 rfl rfl rfl hd_X14_aimed ⟨Nat.le_of_ble_eq_true rfl, Nat.le_of_ble_eq_true rfl⟩) shM.1 rfl rfl hl.1 (Nat.le_of_ble_eq_true rfl) dX14_fires_117 ⟨Nat.le_refl _, Nat.le_refl _⟩ rfl (fun H locs hR hS => ?_)
          refine lv_iload_n hx hb dX14_fires_120 rfl (lv_at hl 3 rfl) ?_
          obtain ⟨rr7, hrr7, hf⟩ := bind_s hf
          refine g0_cVv (rm := (3, 72)) (As := [.int rr6, .int p2]) (rest := []) ⟨hx, hb, hml, hown, hts⟩ hG hR hS (m14_minute l G K (ov I [(1170, o, w2_i_lost), (1171, o, w2_i_outAt)]) J X (ova A [((o + 2), a_now), ((o + 32), w2_a_fuel), ((o + 33), w2_a_burn), ((o + 34), w2_a_wet), ((o + 35), w2_a_heat), ((o + 36), x4_0.1), ((o + 37), x4_0.2)]) B Q o shM rr6 p2 w2_i_lost a_now w2_a_fuel w2_a_burn w2_a_wet w2_a_heat (ov_get 0 rfl rfl) (ova_get 0 hN_A rfl) (ova_get 1 hN_A rfl) (ova_get 2 hN_A rfl) (ova_get 3 hN_A rfl) (ova_get 4 hN_A rfl) rr7 hrr7) (cwV 2 hts gi_X14_445 rfl rfl rfl hd_X14_minute ⟨Nat.le_of_ble_eq_true rfl, Nat.le_of_ble_eq_true rfl⟩) shM.1 rfl rfl hl.1 (Nat.le_of_ble_eq_true rfl) dX14_fires_121 ⟨Nat.le_refl _, Nat.le_refl _⟩ rfl (fun H locs hR hS => ?_)
          have hR : RS G K (ov I [(1170, o, rr7.1), (1171, o, w2_i_outAt)]) J X (ova A [((o + 2), a_now), ((o + 32), rr7.2.1), ((o + 33), rr7.2.2.1), ((o + 34), rr7.2.2.2.1), ((o + 35), rr7.2.2.2.2), ((o + 36), x4_0.1), ((o + 37), x4_0.2)]) B Q H := hR.to (ov_merge (l := [(1170, o, w2_i_lost), (1171, o, w2_i_outAt)]) rfl [0] [(1170, o, rr7.1)] rfl rfl) rfl rfl (ova_merge (l := [((o + 2), a_now), ((o + 32), w2_a_fuel), ((o + 33), w2_a_burn), ((o + 34), w2_a_wet), ((o + 35), w2_a_heat), ((o + 36), x4_0.1), ((o + 37), x4_0.2)]) hN_A [0, 1, 2, 3, 4] [((o + 2), a_now), ((o + 32), rr7.2.1), ((o + 33), rr7.2.2.1), ((o + 34), rr7.2.2.2.1), ((o + 35), rr7.2.2.2.2)] rfl rfl) rfl rfl
          refine lv_aload_n hx hb dX14_fires_124 rfl (lv_at hl 1 rfl) ?_
          refine n_geti (v := w2_i_outAt) hx hb hts hown hG hR gFi_X14_439_11 shM.1 (ov_get 1 rfl rfl) dX14_fires_125 ?_
          refine lv_iconst (v := -1) hx hb dX14_fires_128 li_m1 ?_
          have hj147 : ∀ (j147_i_outAt : Int32), f14_fires_j147 w2_5 x4_0 rr7 j147_i_outAt = some o2 → ∀ (H : Heap) (locs : List Loc) (ls : Array Slot), RS G K (ov I [(1170, o, rr7.1), (1171, o, j147_i_outAt)]) J X (ova A [((o + 2), a_now), ((o + 32), rr7.2.1), ((o + 33), rr7.2.2.1), ((o + 34), rr7.2.2.2.1), ((o + 35), rr7.2.2.2.2), ((o + 36), x4_0.1), ((o + 37), x4_0.2)]) B Q H → va_S (gA G) s.heap H locs → lv_has ls 7 [(0, .ref o), (1, .int p1), (2, .int p2), (3, .int p3), (4, .int p4), (5, .int w2_5)] → W p l e ({ frames := 4, cells := 0, slots := 0, locals := 100 } : Room) s m args below meth c H locs 0 0 Z (F0 m 147 ls []) := by
            intro j147_i_outAt hf H locs ls hR hS hl
            unfold f14_fires_j147 at hf
            obtain ⟨v8, ev8, hf⟩ := lt_some hf
            refine lv_iinc (k := 5) (v := v8) (lv' := [(5, .int v8), (0, .ref o), (1, .int p1), (2, .int p2), (3, .int p3), (4, .int p4)]) hx hb dX14_fires_147 hl rfl (by rw [ev8]; rfl) (by decide) rfl (fun ls hl => ?_)
            refine lv_goto (tgt := 19) hx hb dX14_fires_150 (by decide) ?_
            obtain rfl := some_i hf
            exact hk2 _ _ _ hR hS (lv_sub hl [1, 2, 3, 4, 5, 0] rfl)
          refine lv_icmp_ne (tgt := 147) hx hb dX14_fires_129 (by decide) (fun c9 => ?_) (fun c9 => ?_)
          · have hf := ite_f c9 hf
            exact hj147 w2_i_outAt hf _ _ _ hR hS (lv_sub hl [1, 2, 3, 4, 5, 6] rfl)
          · have hf := ite_t c9 hf
            refine lv_aload_n hx hb dX14_fires_132 rfl (lv_at hl 1 rfl) ?_
            obtain ⟨rr10, hrr10, hf⟩ := bind_s hf
            refine g0_cV (rm := (1, 20)) (As := []) (rest := []) ⟨hx, hb, hml, hown, hts⟩ hG hR hS (m14_burning l G K (ov I [(1170, o, rr7.1), (1171, o, w2_i_outAt)]) J X (ova A [((o + 2), a_now), ((o + 32), rr7.2.1), ((o + 33), rr7.2.2.1), ((o + 34), rr7.2.2.2.1), ((o + 35), rr7.2.2.2.2), ((o + 36), x4_0.1), ((o + 37), x4_0.2)]) B Q o shM a_now rr7.2.2.1 (ova_get 0 hN_A rfl) (ova_get 2 hN_A rfl) rr10 hrr10) (cwV 0 hts gi_X14_436 rfl rfl rfl hd_X14_burning ⟨Nat.le_of_ble_eq_true rfl, Nat.le_of_ble_eq_true rfl⟩) shM.1 rfl rfl hl.1 (Nat.le_of_ble_eq_true rfl) dX14_fires_133 ⟨Nat.le_refl _, Nat.le_refl _⟩ rfl (fun H locs hR hS => ?_)
            refine lv_if_ne (tgt := 147) hx hb dX14_fires_136 (by decide) (fun c11 => ?_) (fun c11 => ?_)
            · have hf := ite_f c11 hf
              exact hj147 w2_i_outAt hf _ _ _ hR hS (lv_sub hl [1, 2, 3, 4, 5, 6] rfl)
            · have hf := ite_t c11 hf
              refine lv_aload_n hx hb dX14_fires_139 rfl (lv_at hl 1 rfl) ?_
              refine lv_iload hx hb dX14_fires_140 (lv_at hl 6 rfl) ?_
              refine lv_iconst (v := 1) hx hb dX14_fires_142 li_1 ?_
              obtain ⟨v12, ev12, hf⟩ := lt_some hf
              refine n_iadd hx hb ev12 dX14_fires_143 ?_
              refine n_puti (li' := [(1170, o, rr7.1), (1171, o, v12)]) hx hb hts hown hG hR hS gPi_X14_439_11 shM.1 1 rfl rfl rfl dX14_fires_144 (fun H locs hR hS => ?_)
              exact hj147 v12 hf _ _ _ hR hS (lv_sub hl [1, 2, 3, 4, 5, 6] rfl)
        refine lv_icmp_ge (tgt := 94) hx hb dX14_fires_87 (by decide) (fun c13 => ?_) (fun c13 => ?_)
        · have hf := ite_t c13 hf
          refine lv_iload hx hb dX14_fires_94 (lv_at hl 5 rfl) ?_
          refine lv_iload hx hb dX14_fires_96 (lv_at hl 4 rfl) ?_
          obtain ⟨v14, ev14, hf⟩ := lt_some hf
          refine n_isub hx hb ev14 dX14_fires_98 ?_
          exact hj99 v14 hf _ _ _ hR hS (lv_sub hl [0, 1, 2, 3, 4, 5] rfl)
        · have hf := ite_f c13 hf
          refine lv_iconst (v := 0) hx hb dX14_fires_90 li_0 ?_
          refine lv_goto (tgt := 99) hx hb dX14_fires_91 (by decide) ?_
          exact hj99 (0 : Int32) hf _ _ _ hR hS (lv_sub hl [0, 1, 2, 3, 4, 5] rfl)
      refine whl_walk (P := fun (s4 : Int32 × (Nat → Int32) × (Nat → Int32)) => ∀ (H : Heap) (locs : List Loc) (ls : Array Slot), RS G K (ov I [(1170, o, w2_i_lost), (1171, o, w2_i_outAt)]) J X (ova A [((o + 2), a_now), ((o + 32), w2_a_fuel), ((o + 33), w2_a_burn), ((o + 34), w2_a_wet), ((o + 35), w2_a_heat), ((o + 36), s4.2.1), ((o + 37), s4.2.2)]) B Q H → va_S (gA G) s.heap H locs → lv_has ls 7 [(0, .ref o), (1, .int p1), (2, .int p2), (3, .int p3), (4, .int p4), (5, .int w2_5), (6, .int s4.1)] → W p l e ({ frames := 4, cells := 0, slots := 0, locals := 100 } : Room) s m args below meth c H locs 0 0 Z (F0 m 28 ls [])) (r := rl4) ?_ FU _ hw4 _ _ _ hR hS (lv_sub hl [1, 2, 3, 4, 5, 6, 0] rfl)
      clear hR hS hl hf
      intro s4 o4 hf hk4 H locs ls hR hS hl
      obtain ⟨w4_6, w4_a_fuelWas, w4_a_burnWas⟩ := s4
      have hf : f14_fires_s4 a_now w2_5 w2_a_fuel w2_a_burn w4_6 w4_a_fuelWas w4_a_burnWas = some o4 := hf
      have hR : RS G K (ov I [(1170, o, w2_i_lost), (1171, o, w2_i_outAt)]) J X (ova A [((o + 2), a_now), ((o + 32), w2_a_fuel), ((o + 33), w2_a_burn), ((o + 34), w2_a_wet), ((o + 35), w2_a_heat), ((o + 36), w4_a_fuelWas), ((o + 37), w4_a_burnWas)]) B Q H := hR
      have hl : lv_has ls 7 [(0, .ref o), (1, .int p1), (2, .int p2), (3, .int p3), (4, .int p4), (5, .int w2_5), (6, .int w4_6)] := hl
      unfold f14_fires_s4 at hf
      refine lv_iload hx hb dX14_fires_28 (lv_at hl 6 rfl) ?_
      refine lv_aload_n hx hb dX14_fires_30 rfl (lv_at hl 0 rfl) ?_
      obtain ⟨rr15, hrr15, hf⟩ := bind_s hf
      refine g0_cV (rm := (0, 0)) (As := []) (rest := [.int w4_6]) ⟨hx, hb, hml, hown, hts⟩ hG hR hS (m14_cells l G K (ov I [(1170, o, w2_i_lost), (1171, o, w2_i_outAt)]) J X (ova A [((o + 2), a_now), ((o + 32), w2_a_fuel), ((o + 33), w2_a_burn), ((o + 34), w2_a_wet), ((o + 35), w2_a_heat), ((o + 36), w4_a_fuelWas), ((o + 37), w4_a_burnWas)]) B Q o shM a_now (ova_get 0 hN_A rfl) rr15 hrr15) (cwV 0 hts gi_X14_426 rfl rfl rfl hd_X14_cells ⟨Nat.le_of_ble_eq_true rfl, Nat.le_of_ble_eq_true rfl⟩) shM.1 rfl rfl hl.1 (Nat.le_of_ble_eq_true rfl) dX14_fires_31 ⟨Nat.le_refl _, Nat.le_refl _⟩ rfl (fun H locs hR hS => ?_)
      refine lv_icmp_ge (tgt := 83) hx hb dX14_fires_34 (by decide) (fun c16 => ?_) (fun c16 => ?_)
      · have hf := ite_t c16 hf
        obtain rfl := some_i hf
        replace hk4 : _ = rl4 := hk4
        subst hk4
        exact hx4_0 (w4_a_fuelWas, w4_a_burnWas) hfo4 _ _ _ hR hS (lv_sub hl [0, 1, 2, 3, 4, 5] rfl)
      · have hf := ite_f c16 hf
        refine lv_aload_n hx hb dX14_fires_37 rfl (lv_at hl 0 rfl) ?_
        refine g_getr (b := (o + 36)) hx hb hts hown hG hR gFx_X14_117_11 shM.1 ((shM.2 35 _ rfl).2) dX14_fires_38 ?_
        refine lv_bipush (v := 64) hx hb dX14_fires_41 lb_64 ?_
        refine lv_iload hx hb dX14_fires_43 (lv_at hl 5 rfl) ?_
        obtain ⟨v17, ev17, hf⟩ := lt_some hf
        refine n_imul hx hb ev17 dX14_fires_45 ?_
        refine lv_iload hx hb dX14_fires_46 (lv_at hl 6 rfl) ?_
        obtain ⟨v18, ev18, hf⟩ := lt_some hf
        refine n_iadd hx hb ev18 dX14_fires_48 ?_
        refine lv_aload_n hx hb dX14_fires_49 rfl (lv_at hl 0 rfl) ?_
        refine g_getr (b := (o + 32)) hx hb hts hown hG hR gFx_X14_105_11 shM.1 ((shM.2 31 _ rfl).2) dX14_fires_50 ?_
        refine lv_iload hx hb dX14_fires_53 (lv_at hl 6 rfl) ?_
        obtain ⟨c19, hf⟩ := gd_some hf
        obtain ⟨v20, ev20, hf⟩ := lt_some hf
        refine n_iald (x := w2_a_fuel) hx hb hG hR k_a_fuel c19 (ova_get 1 hN_A rfl) ev20 dX14_fires_55 ?_
        obtain ⟨c21, hf⟩ := gd_some hf
        obtain ⟨u22, eu22, hf⟩ := lt_some hf
        refine n_iast (la' := [((o + 2), a_now), ((o + 32), w2_a_fuel), ((o + 33), w2_a_burn), ((o + 34), w2_a_wet), ((o + 35), w2_a_heat), ((o + 36), u22), ((o + 37), w4_a_burnWas)]) hx hb hG hR hS k_a_fuelWas c21 hN_A 5 rfl eu22 rfl dX14_fires_56 (fun H locs hR hS => ?_)
        refine lv_aload_n hx hb dX14_fires_57 rfl (lv_at hl 0 rfl) ?_
        refine g_getr (b := (o + 37)) hx hb hts hown hG hR gFx_X14_120_11 shM.1 ((shM.2 36 _ rfl).2) dX14_fires_58 ?_
        refine lv_bipush (v := 64) hx hb dX14_fires_61 lb_64 ?_
        refine lv_iload hx hb dX14_fires_63 (lv_at hl 5 rfl) ?_
        obtain ⟨v23, ev23, hf⟩ := lt_some hf
        refine n_imul hx hb ev23 dX14_fires_65 ?_
        refine lv_iload hx hb dX14_fires_66 (lv_at hl 6 rfl) ?_
        obtain ⟨v24, ev24, hf⟩ := lt_some hf
        refine n_iadd hx hb ev24 dX14_fires_68 ?_
        refine lv_aload_n hx hb dX14_fires_69 rfl (lv_at hl 0 rfl) ?_
        refine g_getr (b := (o + 33)) hx hb hts hown hG hR gFx_X14_108_11 shM.1 ((shM.2 32 _ rfl).2) dX14_fires_70 ?_
        refine lv_iload hx hb dX14_fires_73 (lv_at hl 6 rfl) ?_
        obtain ⟨c25, hf⟩ := gd_some hf
        obtain ⟨v26, ev26, hf⟩ := lt_some hf
        refine n_iald (x := w2_a_burn) hx hb hG hR k_a_burn c25 (ova_get 2 hN_A rfl) ev26 dX14_fires_75 ?_
        obtain ⟨c27, hf⟩ := gd_some hf
        obtain ⟨u28, eu28, hf⟩ := lt_some hf
        refine n_iast (la' := [((o + 2), a_now), ((o + 32), w2_a_fuel), ((o + 33), w2_a_burn), ((o + 34), w2_a_wet), ((o + 35), w2_a_heat), ((o + 36), u22), ((o + 37), u28)]) hx hb hG hR hS k_a_burnWas c27 hN_A 6 rfl eu28 rfl dX14_fires_76 (fun H locs hR hS => ?_)
        obtain ⟨v29, ev29, hf⟩ := lt_some hf
        refine lv_iinc (k := 6) (v := v29) (lv' := [(6, .int v29), (0, .ref o), (1, .int p1), (2, .int p2), (3, .int p3), (4, .int p4), (5, .int w2_5)]) hx hb dX14_fires_77 hl rfl (by rw [ev29]; rfl) (by decide) rfl (fun ls hl => ?_)
        refine lv_goto (tgt := 28) hx hb dX14_fires_80 (by decide) ?_
        obtain rfl := some_i hf
        exact hk4 _ _ _ hR hS (lv_sub hl [1, 2, 3, 4, 5, 6, 0] rfl)
  refine lv_if_ne (tgt := 12) hx hb dX14_fires_5 (by decide) (fun c30 => ?_) (fun c30 => ?_)
  · have hf := ite_f c30 hf
    refine lv_iconst (v := -1) hx hb dX14_fires_12 li_m1 ?_
    exact hj13 (-1 : Int32) hf _ _ _ hR hS (lv_sub hl [0, 1, 2, 3, 4] rfl)
  · have hf := ite_t c30 hf
    refine lv_iconst (v := 0) hx hb dX14_fires_8 li_0 ?_
    refine lv_goto (tgt := 13) hx hb dX14_fires_9 (by decide) ?_
    exact hj13 (0 : Int32) hf _ _ _ hR hS (lv_sub hl [0, 1, 2, 3, 4] rfl)
noncomputable def f14_give_e6_0 (rr1 : Int32 × (Nat → Int32)) (x6_0 : Int32 × Int32 × Int32 × (Nat → Int32) × (Nat → Int32) × (Nat → Int32) × (Nat → Int32) × (Nat → Int32) × (Nat → Int32)) : Option (Int32 × Int32 × Int32 × Int32 × Int32 × (Nat → Int32) × (Nat → Int32) × (Nat → Int32) × (Nat → Int32) × (Nat → Int32) × (Nat → Int32) × (Nat → Int32)) :=
  some (x6_0.1, (0 : Int32), rr1.1, x6_0.2.1, x6_0.2.2.1, rr1.2, x6_0.2.2.2.1, x6_0.2.2.2.2.1, x6_0.2.2.2.2.2.1, x6_0.2.2.2.2.2.2.1, x6_0.2.2.2.2.2.2.2.1, x6_0.2.2.2.2.2.2.2.2)

noncomputable def f14_give_j100 (w6_4 : Int32) (rr11 : Int32 × Int32 × (Nat → Int32) × (Nat → Int32) × (Nat → Int32) × (Nat → Int32) × (Nat → Int32) × (Nat → Int32)) (j100_2 : Int32) (j100_3 : Int32) : Option ((Int32 × Int32 × Int32 × Int32 × Int32 × (Nat → Int32) × (Nat → Int32) × (Nat → Int32) × (Nat → Int32) × (Nat → Int32) × (Nat → Int32)) ⊕ (Int32 × Int32 × Int32 × (Nat → Int32) × (Nat → Int32) × (Nat → Int32) × (Nat → Int32) × (Nat → Int32) × (Nat → Int32))) :=
  lt (w6_4 + (1 : Int32)) fun v13 =>
  some (.inl (j100_2, j100_3, v13, rr11.1, rr11.2.1, rr11.2.2.1, rr11.2.2.2.1, rr11.2.2.2.2.1, rr11.2.2.2.2.2.1, rr11.2.2.2.2.2.2.1, rr11.2.2.2.2.2.2.2))

noncomputable def f14_give_s6 (p1 : Int32) (rr1 : Int32 × (Nat → Int32)) (w6_2 : Int32) (w6_3 : Int32) (w6_4 : Int32) (w6_i_lost : Int32) (w6_i_outAt : Int32) (w6_a_fuel : Nat → Int32) (w6_a_burn : Nat → Int32) (w6_a_wet : Nat → Int32) (w6_a_heat : Nat → Int32) (w6_a_fuelWas : Nat → Int32) (w6_a_burnWas : Nat → Int32) : Option ((Int32 × Int32 × Int32 × Int32 × Int32 × (Nat → Int32) × (Nat → Int32) × (Nat → Int32) × (Nat → Int32) × (Nat → Int32) × (Nat → Int32)) ⊕ (Int32 × Int32 × Int32 × (Nat → Int32) × (Nat → Int32) × (Nat → Int32) × (Nat → Int32) × (Nat → Int32) × (Nat → Int32))) :=
  (f14_columns rr1.2).bind fun rr7 =>
  if rr7 ≤ w6_4 then
    some (.inr (w6_3, w6_i_lost, w6_i_outAt, w6_a_fuel, w6_a_burn, w6_a_wet, w6_a_heat, w6_a_fuelWas, w6_a_burnWas))
  else
    (f14_light w6_i_lost rr1.2 w6_a_fuel w6_a_burn w6_a_wet).bind fun rr9 =>
    (f14_givesUp w6_4 rr1.2 rr9.2.1 rr9.2.2.1).bind fun rr10 =>
    (f14_fires (30 : Int32) p1 (1 : Int32) (0 : Int32) rr9.1 w6_i_outAt rr1.2 rr10.2.1 rr10.2.2 rr9.2.2.2 w6_a_heat w6_a_fuelWas w6_a_burnWas).bind fun rr11 =>
    lt (rr11.1 + rr10.1) fun v12 =>
    if v12 < w6_2 then
      lt (rr11.1 + rr10.1) fun v15 =>
      f14_give_j100 w6_4 rr11 v15 w6_4
    else
      f14_give_j100 w6_4 rr11 w6_2 w6_3

noncomputable def f14_give (p1 : Int32) (i_thrown : Int32) (i_isBegun : Int32) (i_lost : Int32) (i_outAt : Int32) (a_now : Nat → Int32) (a_fuel : Nat → Int32) (a_burn : Nat → Int32) (a_wet : Nat → Int32) (a_heat : Nat → Int32) (a_fuelWas : Nat → Int32) (a_burnWas : Nat → Int32) : Option (Int32 × Int32 × Int32 × Int32 × Int32 × (Nat → Int32) × (Nat → Int32) × (Nat → Int32) × (Nat → Int32) × (Nat → Int32) × (Nat → Int32) × (Nat → Int32)) :=
  (f14_lay i_isBegun a_now).bind fun rr1 =>
  (f14_isIn p1 (0 : Int32) (999 : Int32)).bind fun rr2 =>
  if rr2 = 0 then
    some ((-1 : Int32), (0 : Int32), rr1.1, i_lost, i_outAt, rr1.2, a_fuel, a_burn, a_wet, a_heat, a_fuelWas, a_burnWas)
  else
    (f14_light i_lost rr1.2 a_fuel a_burn a_wet).bind fun rr4 =>
    (f14_fires (30 : Int32) p1 (1 : Int32) (0 : Int32) rr4.1 i_outAt rr1.2 rr4.2.1 rr4.2.2.1 rr4.2.2.2 a_heat a_fuelWas a_burnWas).bind fun rr5 =>
    (whl (fun (s6 : Int32 × Int32 × Int32 × Int32 × Int32 × (Nat → Int32) × (Nat → Int32) × (Nat → Int32) × (Nat → Int32) × (Nat → Int32) × (Nat → Int32)) => f14_give_s6 p1 rr1 s6.1 s6.2.1 s6.2.2.1 s6.2.2.2.1 s6.2.2.2.2.1 s6.2.2.2.2.2.1 s6.2.2.2.2.2.2.1 s6.2.2.2.2.2.2.2.1 s6.2.2.2.2.2.2.2.2.1 s6.2.2.2.2.2.2.2.2.2.1 s6.2.2.2.2.2.2.2.2.2.2) FU (rr5.1, (-1 : Int32), (0 : Int32), rr5.1, rr5.2.1, rr5.2.2.1, rr5.2.2.2.1, rr5.2.2.2.2.1, rr5.2.2.2.2.2.1, rr5.2.2.2.2.2.2.1, rr5.2.2.2.2.2.2.2)).bind fun rl6 =>
    f14_give_e6_0 rr1 rl6
set_option maxHeartbeats 4000000 in
theorem m14_give (l : Launch) (G : gG) (K : gK) (I : gI) (J : gJ) (X : gX) (A : gI) (B : gJ) (Q : gX) (o : Nat) (shM : Sh K X o 11 rows11) (p1 : Int32) (i_thrown : Int32) (i_isBegun : Int32) (i_lost : Int32) (i_outAt : Int32) (a_now : Nat → Int32) (a_fuel : Nat → Int32) (a_burn : Nat → Int32) (a_wet : Nat → Int32) (a_heat : Nat → Int32) (a_fuelWas : Nat → Int32) (a_burnWas : Nat → Int32) (e_i_thrown : I 1100 o = i_thrown) (e_i_isBegun : I 1122 o = i_isBegun) (e_i_lost : I 1170 o = i_lost) (e_i_outAt : I 1171 o = i_outAt) (e_a_now : A (o + 2) = a_now) (e_a_fuel : A (o + 32) = a_fuel) (e_a_burn : A (o + 33) = a_burn) (e_a_wet : A (o + 34) = a_wet) (e_a_heat : A (o + 35) = a_heat) (e_a_fuelWas : A (o + 36) = a_fuelWas) (e_a_burnWas : A (o + 37) = a_burnWas) (out : Int32 × Int32 × Int32 × Int32 × Int32 × (Nat → Int32) × (Nat → Int32) × (Nat → Int32) × (Nat → Int32) × (Nat → Int32) × (Nat → Int32) × (Nat → Int32)) (hf : f14_give p1 i_thrown i_isBegun i_lost i_outAt a_now a_fuel a_burn a_wet a_heat a_fuelWas a_burnWas = some out) : GMet l yX14_give cX14_give 6 (some .int) (5) (126) G [.ref o, .int p1] K I J X A B Q (some (.int out.1)) K (ov I [(1100, o, out.2.1), (1122, o, out.2.2.1), (1170, o, out.2.2.2.1), (1171, o, out.2.2.2.2.1)]) J X (ova A [((o + 2), out.2.2.2.2.2.1), ((o + 32), out.2.2.2.2.2.2.1), ((o + 33), out.2.2.2.2.2.2.2.1), ((o + 34), out.2.2.2.2.2.2.2.2.1), ((o + 35), out.2.2.2.2.2.2.2.2.2.1), ((o + 36), out.2.2.2.2.2.2.2.2.2.2.1), ((o + 37), out.2.2.2.2.2.2.2.2.2.2.2)]) B Q 0 0 := by
  refine GMet.of (y := yX14_give) rfl (Nat.le_of_ble_eq_true rfl) rfl ?_
  intro p e s m below meth c ls hx hb hr hml hlocks hts hown hname hG hR hl
  have hown : s.vm.findClass RX14 = some m.cls := hown
  have k_a_now : K (o + 2) = some (.inr (0, 800)) := (shM.2 1 _ rfl).1
  have k_a_fuel : K (o + 32) = some (.inr (0, 64)) := (shM.2 31 _ rfl).1
  have k_a_burn : K (o + 33) = some (.inr (0, 64)) := (shM.2 32 _ rfl).1
  have k_a_wet : K (o + 34) = some (.inr (0, 64)) := (shM.2 33 _ rfl).1
  have k_a_heat : K (o + 35) = some (.inr (0, 64)) := (shM.2 34 _ rfl).1
  have k_a_fuelWas : K (o + 36) = some (.inr (0, 3904)) := (shM.2 35 _ rfl).1
  have k_a_burnWas : K (o + 37) = some (.inr (0, 3904)) := (shM.2 36 _ rfl).1
  have hN_A : nda [(o + 2), (o + 32), (o + 33), (o + 34), (o + 35), (o + 36), (o + 37)] := nd_off o [2, 32, 33, 34, 35, 36, 37] rfl
  have hR : RS G K (ov I [(1100, o, i_thrown), (1122, o, i_isBegun), (1170, o, i_lost), (1171, o, i_outAt)]) J X (ova A [((o + 2), a_now), ((o + 32), a_fuel), ((o + 33), a_burn), ((o + 34), a_wet), ((o + 35), a_heat), ((o + 36), a_fuelWas), ((o + 37), a_burnWas)]) B Q s.heap := hR.to (Eq.symm (ov_sc e_i_thrown (ov_sc e_i_isBegun (ov_sc e_i_lost (ov_sc e_i_outAt rfl))))) rfl rfl (Eq.symm (ova_sc e_a_now (ova_sc e_a_fuel (ova_sc e_a_burn (ova_sc e_a_wet (ova_sc e_a_heat (ova_sc e_a_fuelWas (ova_sc e_a_burnWas rfl)))))))) rfl rfl
  have hS : va_S (gA G) s.heap s.heap [] := va_S.rf
  have hend : ∀ (pc : Nat) (H : Heap) (locs : List Loc) (ls : Array Slot), decode cX14_give pc = .ok (.ireturn, 1) → RS G K (ov I [(1100, o, out.2.1), (1122, o, out.2.2.1), (1170, o, out.2.2.2.1), (1171, o, out.2.2.2.2.1)]) J X (ova A [((o + 2), out.2.2.2.2.2.1), ((o + 32), out.2.2.2.2.2.2.1), ((o + 33), out.2.2.2.2.2.2.2.1), ((o + 34), out.2.2.2.2.2.2.2.2.1), ((o + 35), out.2.2.2.2.2.2.2.2.2.1), ((o + 36), out.2.2.2.2.2.2.2.2.2.2.1), ((o + 37), out.2.2.2.2.2.2.2.2.2.2.2)]) B Q H → va_S (gA G) s.heap H locs → W p l e ({ frames := 5, cells := 0, slots := 0, locals := 126 } : Room) s m ([.ref o, .int p1] : List Value).toArray below meth c H locs 0 0 (MQ below (gQ G (some (.int out.1)) K (ov I [(1100, o, out.2.1), (1122, o, out.2.2.1), (1170, o, out.2.2.2.1), (1171, o, out.2.2.2.2.1)]) J X (ova A [((o + 2), out.2.2.2.2.2.1), ((o + 32), out.2.2.2.2.2.2.1), ((o + 33), out.2.2.2.2.2.2.2.1), ((o + 34), out.2.2.2.2.2.2.2.2.1), ((o + 35), out.2.2.2.2.2.2.2.2.2.1), ((o + 36), out.2.2.2.2.2.2.2.2.2.2.1), ((o + 37), out.2.2.2.2.2.2.2.2.2.2.2)]) B Q) ([.ref o, .int p1] : List Value).toArray s 0 0 (gA G)) (F0 m pc ls [.int out.1]) := fun pc H locs ls hd hR hS => g_iret hx hb hr hlocks hG hR hS rfl hd
  generalize MQ below (gQ G (some (.int out.1)) K (ov I [(1100, o, out.2.1), (1122, o, out.2.2.1), (1170, o, out.2.2.2.1), (1171, o, out.2.2.2.2.1)]) J X (ova A [((o + 2), out.2.2.2.2.2.1), ((o + 32), out.2.2.2.2.2.2.1), ((o + 33), out.2.2.2.2.2.2.2.1), ((o + 34), out.2.2.2.2.2.2.2.2.1), ((o + 35), out.2.2.2.2.2.2.2.2.2.1), ((o + 36), out.2.2.2.2.2.2.2.2.2.2.1), ((o + 37), out.2.2.2.2.2.2.2.2.2.2.2)]) B Q) ([.ref o, .int p1] : List Value).toArray s 0 0 (gA G) = Z at hend ⊢
  generalize ([.ref o, .int p1] : List Value).toArray = args at hts hend ⊢
  unfold f14_give at hf
  refine lv_aload_n hx hb dX14_give_0 rfl (lv_at hl 0 rfl) ?_
  refine lv_iconst (v := 0) hx hb dX14_give_1 li_0 ?_
  refine n_puti (li' := [(1100, o, (0 : Int32)), (1122, o, i_isBegun), (1170, o, i_lost), (1171, o, i_outAt)]) hx hb hts hown hG hR hS gPi_X14_148_11 shM.1 0 rfl rfl rfl dX14_give_2 (fun H locs hR hS => ?_)
  refine lv_aload_n hx hb dX14_give_5 rfl (lv_at hl 0 rfl) ?_
  obtain ⟨rr1, hrr1, hf⟩ := bind_s hf
  refine g0_cVv (rm := (1, 21)) (As := []) (rest := []) ⟨hx, hb, hml, hown, hts⟩ hG hR hS (m14_lay l G K (ov I [(1100, o, (0 : Int32)), (1122, o, i_isBegun), (1170, o, i_lost), (1171, o, i_outAt)]) J X (ova A [((o + 2), a_now), ((o + 32), a_fuel), ((o + 33), a_burn), ((o + 34), a_wet), ((o + 35), a_heat), ((o + 36), a_fuelWas), ((o + 37), a_burnWas)]) B Q o shM i_isBegun a_now (ov_get 1 rfl rfl) (ova_get 0 hN_A rfl) rr1 hrr1) (cwV 0 hts gi_X14_232 rfl rfl rfl hd_X14_lay ⟨Nat.le_of_ble_eq_true rfl, Nat.le_of_ble_eq_true rfl⟩) shM.1 rfl rfl hl.1 (Nat.le_of_ble_eq_true rfl) dX14_give_6 ⟨Nat.le_refl _, Nat.le_refl _⟩ rfl (fun H locs hR hS => ?_)
  have hR : RS G K (ov I [(1100, o, (0 : Int32)), (1122, o, rr1.1), (1170, o, i_lost), (1171, o, i_outAt)]) J X (ova A [((o + 2), rr1.2), ((o + 32), a_fuel), ((o + 33), a_burn), ((o + 34), a_wet), ((o + 35), a_heat), ((o + 36), a_fuelWas), ((o + 37), a_burnWas)]) B Q H := hR.to (ov_merge (l := [(1100, o, (0 : Int32)), (1122, o, i_isBegun), (1170, o, i_lost), (1171, o, i_outAt)]) rfl [1] [(1122, o, rr1.1)] rfl rfl) rfl rfl (ova_merge (l := [((o + 2), a_now), ((o + 32), a_fuel), ((o + 33), a_burn), ((o + 34), a_wet), ((o + 35), a_heat), ((o + 36), a_fuelWas), ((o + 37), a_burnWas)]) hN_A [0] [((o + 2), rr1.2)] rfl rfl) rfl rfl
  refine lv_iload_n hx hb dX14_give_9 rfl (lv_at hl 1 rfl) ?_
  refine lv_iconst (v := 0) hx hb dX14_give_10 li_0 ?_
  refine lv_sipush (v := 999) hx hb dX14_give_11 ls_999 ?_
  obtain ⟨rr2, hrr2, hf⟩ := bind_s hf
  refine g0_cS (rm := (0, 0)) (As := [.int p1, .int (0 : Int32), .int (999 : Int32)]) (rest := []) ⟨hx, hb, hml, hown, hts⟩ hG hR hS (m14_isIn l G K (ov I [(1100, o, (0 : Int32)), (1122, o, rr1.1), (1170, o, i_lost), (1171, o, i_outAt)]) J X (ova A [((o + 2), rr1.2), ((o + 32), a_fuel), ((o + 33), a_burn), ((o + 34), a_wet), ((o + 35), a_heat), ((o + 36), a_fuelWas), ((o + 37), a_burnWas)]) B Q p1 (0 : Int32) (999 : Int32) rr2 hrr2) (cwS 3 hts gi_X14_219 rfl rfl rfl hd_X14_isIn ⟨Nat.le_of_ble_eq_true rfl, Nat.le_of_ble_eq_true rfl⟩) rfl hl.1 (Nat.le_of_ble_eq_true rfl) dX14_give_14 ⟨Nat.le_refl _, Nat.le_refl _⟩ rfl (fun H locs hR hS => ?_)
  refine lv_if_ne (tgt := 22) hx hb dX14_give_17 (by decide) (fun c3 => ?_) (fun c3 => ?_)
  · have hf := ite_f c3 hf
    refine lv_aload_n hx hb dX14_give_22 rfl (lv_at hl 0 rfl) ?_
    obtain ⟨rr4, hrr4, hf⟩ := bind_s hf
    refine g0_cVv (rm := (1, 20)) (As := []) (rest := []) ⟨hx, hb, hml, hown, hts⟩ hG hR hS (m14_light l G K (ov I [(1100, o, (0 : Int32)), (1122, o, rr1.1), (1170, o, i_lost), (1171, o, i_outAt)]) J X (ova A [((o + 2), rr1.2), ((o + 32), a_fuel), ((o + 33), a_burn), ((o + 34), a_wet), ((o + 35), a_heat), ((o + 36), a_fuelWas), ((o + 37), a_burnWas)]) B Q o shM i_lost rr1.2 a_fuel a_burn a_wet (ov_get 2 rfl rfl) (ova_get 0 hN_A rfl) (ova_get 1 hN_A rfl) (ova_get 2 hN_A rfl) (ova_get 3 hN_A rfl) rr4 hrr4) (cwV 0 hts gi_X14_451 rfl rfl rfl hd_X14_light ⟨Nat.le_of_ble_eq_true rfl, Nat.le_of_ble_eq_true rfl⟩) shM.1 rfl rfl hl.1 (Nat.le_of_ble_eq_true rfl) dX14_give_23 ⟨Nat.le_refl _, Nat.le_refl _⟩ rfl (fun H locs hR hS => ?_)
    have hR : RS G K (ov I [(1100, o, (0 : Int32)), (1122, o, rr1.1), (1170, o, rr4.1), (1171, o, i_outAt)]) J X (ova A [((o + 2), rr1.2), ((o + 32), rr4.2.1), ((o + 33), rr4.2.2.1), ((o + 34), rr4.2.2.2), ((o + 35), a_heat), ((o + 36), a_fuelWas), ((o + 37), a_burnWas)]) B Q H := hR.to (ov_merge (l := [(1100, o, (0 : Int32)), (1122, o, rr1.1), (1170, o, i_lost), (1171, o, i_outAt)]) rfl [2] [(1170, o, rr4.1)] rfl rfl) rfl rfl (ova_merge (l := [((o + 2), rr1.2), ((o + 32), a_fuel), ((o + 33), a_burn), ((o + 34), a_wet), ((o + 35), a_heat), ((o + 36), a_fuelWas), ((o + 37), a_burnWas)]) hN_A [0, 1, 2, 3] [((o + 2), rr1.2), ((o + 32), rr4.2.1), ((o + 33), rr4.2.2.1), ((o + 34), rr4.2.2.2)] rfl rfl) rfl rfl
    refine lv_aload_n hx hb dX14_give_26 rfl (lv_at hl 0 rfl) ?_
    refine lv_bipush (v := 30) hx hb dX14_give_27 lb_30 ?_
    refine lv_iload_n hx hb dX14_give_29 rfl (lv_at hl 1 rfl) ?_
    refine lv_iconst (v := 1) hx hb dX14_give_30 li_1 ?_
    refine lv_iconst (v := 0) hx hb dX14_give_31 li_0 ?_
    obtain ⟨rr5, hrr5, hf⟩ := bind_s hf
    refine g0_cVv (rm := (4, 100)) (As := [.int (30 : Int32), .int p1, .int (1 : Int32), .int (0 : Int32)]) (rest := []) ⟨hx, hb, hml, hown, hts⟩ hG hR hS (m14_fires l G K (ov I [(1100, o, (0 : Int32)), (1122, o, rr1.1), (1170, o, rr4.1), (1171, o, i_outAt)]) J X (ova A [((o + 2), rr1.2), ((o + 32), rr4.2.1), ((o + 33), rr4.2.2.1), ((o + 34), rr4.2.2.2), ((o + 35), a_heat), ((o + 36), a_fuelWas), ((o + 37), a_burnWas)]) B Q o shM (30 : Int32) p1 (1 : Int32) (0 : Int32) rr4.1 i_outAt rr1.2 rr4.2.1 rr4.2.2.1 rr4.2.2.2 a_heat a_fuelWas a_burnWas (ov_get 2 rfl rfl) (ov_get 3 rfl rfl) (ova_get 0 hN_A rfl) (ova_get 1 hN_A rfl) (ova_get 2 hN_A rfl) (ova_get 3 hN_A rfl) (ova_get 4 hN_A rfl) (ova_get 5 hN_A rfl) (ova_get 6 hN_A rfl) rr5 hrr5) (cwV 4 hts gi_X14_454 rfl rfl rfl hd_X14_fires ⟨Nat.le_of_ble_eq_true rfl, Nat.le_of_ble_eq_true rfl⟩) shM.1 rfl rfl hl.1 (Nat.le_of_ble_eq_true rfl) dX14_give_32 ⟨Nat.le_refl _, Nat.le_refl _⟩ rfl (fun H locs hR hS => ?_)
    have hR : RS G K (ov I [(1100, o, (0 : Int32)), (1122, o, rr1.1), (1170, o, rr5.1), (1171, o, rr5.2.1)]) J X (ova A [((o + 2), rr1.2), ((o + 32), rr5.2.2.1), ((o + 33), rr5.2.2.2.1), ((o + 34), rr5.2.2.2.2.1), ((o + 35), rr5.2.2.2.2.2.1), ((o + 36), rr5.2.2.2.2.2.2.1), ((o + 37), rr5.2.2.2.2.2.2.2)]) B Q H := hR.to (ov_merge (l := [(1100, o, (0 : Int32)), (1122, o, rr1.1), (1170, o, rr4.1), (1171, o, i_outAt)]) rfl [2, 3] [(1170, o, rr5.1), (1171, o, rr5.2.1)] rfl rfl) rfl rfl (ova_merge (l := [((o + 2), rr1.2), ((o + 32), rr4.2.1), ((o + 33), rr4.2.2.1), ((o + 34), rr4.2.2.2), ((o + 35), a_heat), ((o + 36), a_fuelWas), ((o + 37), a_burnWas)]) hN_A [0, 1, 2, 3, 4, 5, 6] [((o + 2), rr1.2), ((o + 32), rr5.2.2.1), ((o + 33), rr5.2.2.2.1), ((o + 34), rr5.2.2.2.2.1), ((o + 35), rr5.2.2.2.2.2.1), ((o + 36), rr5.2.2.2.2.2.2.1), ((o + 37), rr5.2.2.2.2.2.2.2)] rfl rfl) rfl rfl
    refine lv_aload_n hx hb dX14_give_35 rfl (lv_at hl 0 rfl) ?_
    refine n_geti (v := rr5.1) hx hb hts hown hG hR gFi_X14_423_11 shM.1 (ov_get 2 rfl rfl) dX14_give_36 ?_
    refine lv_istore_n (lv' := [(2, .int rr5.1), (0, .ref o), (1, .int p1)]) hx hb dX14_give_39 rfl hl (by decide) rfl (fun ls hl => ?_)
    refine lv_iconst (v := -1) hx hb dX14_give_40 li_m1 ?_
    refine lv_istore_n (lv' := [(3, .int (-1 : Int32)), (2, .int rr5.1), (0, .ref o), (1, .int p1)]) hx hb dX14_give_41 rfl hl (by decide) rfl (fun ls hl => ?_)
    refine lv_iconst (v := 0) hx hb dX14_give_42 li_0 ?_
    refine lv_istore (lv' := [(4, .int (0 : Int32)), (3, .int (-1 : Int32)), (2, .int rr5.1), (0, .ref o), (1, .int p1)]) hx hb dX14_give_43 hl (by decide) rfl (fun ls hl => ?_)
    obtain ⟨rl6, hw6, hfo6⟩ := bind_s hf
    have hx6_0 : ∀ (x6_0 : Int32 × Int32 × Int32 × (Nat → Int32) × (Nat → Int32) × (Nat → Int32) × (Nat → Int32) × (Nat → Int32) × (Nat → Int32)), f14_give_e6_0 rr1 x6_0 = some out → ∀ (H : Heap) (locs : List Loc) (ls : Array Slot), RS G K (ov I [(1100, o, (0 : Int32)), (1122, o, rr1.1), (1170, o, x6_0.2.1), (1171, o, x6_0.2.2.1)]) J X (ova A [((o + 2), rr1.2), ((o + 32), x6_0.2.2.2.1), ((o + 33), x6_0.2.2.2.2.1), ((o + 34), x6_0.2.2.2.2.2.1), ((o + 35), x6_0.2.2.2.2.2.2.1), ((o + 36), x6_0.2.2.2.2.2.2.2.1), ((o + 37), x6_0.2.2.2.2.2.2.2.2)]) B Q H → va_S (gA G) s.heap H locs → lv_has ls 6 [(0, .ref o), (3, .int x6_0.1)] → W p l e ({ frames := 5, cells := 0, slots := 0, locals := 126 } : Room) s m args below meth c H locs 0 0 Z (F0 m 106 ls []) := by
      intro x6_0 hf H locs ls hR hS hl
      unfold f14_give_e6_0 at hf
      refine lv_iload_n hx hb dX14_give_106 rfl (lv_at hl 1 rfl) ?_
      obtain rfl := some_i hf
      exact hend _ _ _ _ dX14_give_107 hR hS
    refine whl_walk (P := fun (s6 : Int32 × Int32 × Int32 × Int32 × Int32 × (Nat → Int32) × (Nat → Int32) × (Nat → Int32) × (Nat → Int32) × (Nat → Int32) × (Nat → Int32)) => ∀ (H : Heap) (locs : List Loc) (ls : Array Slot), RS G K (ov I [(1100, o, (0 : Int32)), (1122, o, rr1.1), (1170, o, s6.2.2.2.1), (1171, o, s6.2.2.2.2.1)]) J X (ova A [((o + 2), rr1.2), ((o + 32), s6.2.2.2.2.2.1), ((o + 33), s6.2.2.2.2.2.2.1), ((o + 34), s6.2.2.2.2.2.2.2.1), ((o + 35), s6.2.2.2.2.2.2.2.2.1), ((o + 36), s6.2.2.2.2.2.2.2.2.2.1), ((o + 37), s6.2.2.2.2.2.2.2.2.2.2)]) B Q H → va_S (gA G) s.heap H locs → lv_has ls 6 [(0, .ref o), (1, .int p1), (2, .int s6.1), (3, .int s6.2.1), (4, .int s6.2.2.1)] → W p l e ({ frames := 5, cells := 0, slots := 0, locals := 126 } : Room) s m args below meth c H locs 0 0 Z (F0 m 45 ls [])) (r := rl6) ?_ FU _ hw6 _ _ _ hR hS (lv_sub hl [3, 4, 2, 1, 0] rfl)
    clear hR hS hl hf
    intro s6 o6 hf hk6 H locs ls hR hS hl
    obtain ⟨w6_2, w6_3, w6_4, w6_i_lost, w6_i_outAt, w6_a_fuel, w6_a_burn, w6_a_wet, w6_a_heat, w6_a_fuelWas, w6_a_burnWas⟩ := s6
    have hf : f14_give_s6 p1 rr1 w6_2 w6_3 w6_4 w6_i_lost w6_i_outAt w6_a_fuel w6_a_burn w6_a_wet w6_a_heat w6_a_fuelWas w6_a_burnWas = some o6 := hf
    have hR : RS G K (ov I [(1100, o, (0 : Int32)), (1122, o, rr1.1), (1170, o, w6_i_lost), (1171, o, w6_i_outAt)]) J X (ova A [((o + 2), rr1.2), ((o + 32), w6_a_fuel), ((o + 33), w6_a_burn), ((o + 34), w6_a_wet), ((o + 35), w6_a_heat), ((o + 36), w6_a_fuelWas), ((o + 37), w6_a_burnWas)]) B Q H := hR
    have hl : lv_has ls 6 [(0, .ref o), (1, .int p1), (2, .int w6_2), (3, .int w6_3), (4, .int w6_4)] := hl
    unfold f14_give_s6 at hf
    refine lv_iload hx hb dX14_give_45 (lv_at hl 4 rfl) ?_
    refine lv_aload_n hx hb dX14_give_47 rfl (lv_at hl 0 rfl) ?_
    obtain ⟨rr7, hrr7, hf⟩ := bind_s hf
    refine g0_cV (rm := (0, 0)) (As := []) (rest := [.int w6_4]) ⟨hx, hb, hml, hown, hts⟩ hG hR hS (m14_columns l G K (ov I [(1100, o, (0 : Int32)), (1122, o, rr1.1), (1170, o, w6_i_lost), (1171, o, w6_i_outAt)]) J X (ova A [((o + 2), rr1.2), ((o + 32), w6_a_fuel), ((o + 33), w6_a_burn), ((o + 34), w6_a_wet), ((o + 35), w6_a_heat), ((o + 36), w6_a_fuelWas), ((o + 37), w6_a_burnWas)]) B Q o shM rr1.2 (ova_get 0 hN_A rfl) rr7 hrr7) (cwV 0 hts gi_X14_298 rfl rfl rfl hd_X14_columns ⟨Nat.le_of_ble_eq_true rfl, Nat.le_of_ble_eq_true rfl⟩) shM.1 rfl rfl hl.1 (Nat.le_of_ble_eq_true rfl) dX14_give_48 ⟨Nat.le_refl _, Nat.le_refl _⟩ rfl (fun H locs hR hS => ?_)
    refine lv_icmp_ge (tgt := 106) hx hb dX14_give_51 (by decide) (fun c8 => ?_) (fun c8 => ?_)
    · have hf := ite_t c8 hf
      obtain rfl := some_i hf
      replace hk6 : _ = rl6 := hk6
      subst hk6
      exact hx6_0 (w6_3, w6_i_lost, w6_i_outAt, w6_a_fuel, w6_a_burn, w6_a_wet, w6_a_heat, w6_a_fuelWas, w6_a_burnWas) hfo6 _ _ _ hR hS (lv_sub hl [0, 3] rfl)
    · have hf := ite_f c8 hf
      refine lv_aload_n hx hb dX14_give_54 rfl (lv_at hl 0 rfl) ?_
      obtain ⟨rr9, hrr9, hf⟩ := bind_s hf
      refine g0_cVv (rm := (1, 20)) (As := []) (rest := []) ⟨hx, hb, hml, hown, hts⟩ hG hR hS (m14_light l G K (ov I [(1100, o, (0 : Int32)), (1122, o, rr1.1), (1170, o, w6_i_lost), (1171, o, w6_i_outAt)]) J X (ova A [((o + 2), rr1.2), ((o + 32), w6_a_fuel), ((o + 33), w6_a_burn), ((o + 34), w6_a_wet), ((o + 35), w6_a_heat), ((o + 36), w6_a_fuelWas), ((o + 37), w6_a_burnWas)]) B Q o shM w6_i_lost rr1.2 w6_a_fuel w6_a_burn w6_a_wet (ov_get 2 rfl rfl) (ova_get 0 hN_A rfl) (ova_get 1 hN_A rfl) (ova_get 2 hN_A rfl) (ova_get 3 hN_A rfl) rr9 hrr9) (cwV 0 hts gi_X14_451 rfl rfl rfl hd_X14_light ⟨Nat.le_of_ble_eq_true rfl, Nat.le_of_ble_eq_true rfl⟩) shM.1 rfl rfl hl.1 (Nat.le_of_ble_eq_true rfl) dX14_give_55 ⟨Nat.le_refl _, Nat.le_refl _⟩ rfl (fun H locs hR hS => ?_)
      have hR : RS G K (ov I [(1100, o, (0 : Int32)), (1122, o, rr1.1), (1170, o, rr9.1), (1171, o, w6_i_outAt)]) J X (ova A [((o + 2), rr1.2), ((o + 32), rr9.2.1), ((o + 33), rr9.2.2.1), ((o + 34), rr9.2.2.2), ((o + 35), w6_a_heat), ((o + 36), w6_a_fuelWas), ((o + 37), w6_a_burnWas)]) B Q H := hR.to (ov_merge (l := [(1100, o, (0 : Int32)), (1122, o, rr1.1), (1170, o, w6_i_lost), (1171, o, w6_i_outAt)]) rfl [2] [(1170, o, rr9.1)] rfl rfl) rfl rfl (ova_merge (l := [((o + 2), rr1.2), ((o + 32), w6_a_fuel), ((o + 33), w6_a_burn), ((o + 34), w6_a_wet), ((o + 35), w6_a_heat), ((o + 36), w6_a_fuelWas), ((o + 37), w6_a_burnWas)]) hN_A [0, 1, 2, 3] [((o + 2), rr1.2), ((o + 32), rr9.2.1), ((o + 33), rr9.2.2.1), ((o + 34), rr9.2.2.2)] rfl rfl) rfl rfl
      refine lv_aload_n hx hb dX14_give_58 rfl (lv_at hl 0 rfl) ?_
      refine lv_iload hx hb dX14_give_59 (lv_at hl 4 rfl) ?_
      obtain ⟨rr10, hrr10, hf⟩ := bind_s hf
      refine g0_cV (rm := (1, 20)) (As := [.int w6_4]) (rest := []) ⟨hx, hb, hml, hown, hts⟩ hG hR hS (m14_givesUp l G K (ov I [(1100, o, (0 : Int32)), (1122, o, rr1.1), (1170, o, rr9.1), (1171, o, w6_i_outAt)]) J X (ova A [((o + 2), rr1.2), ((o + 32), rr9.2.1), ((o + 33), rr9.2.2.1), ((o + 34), rr9.2.2.2), ((o + 35), w6_a_heat), ((o + 36), w6_a_fuelWas), ((o + 37), w6_a_burnWas)]) B Q o shM w6_4 rr1.2 rr9.2.1 rr9.2.2.1 (ova_get 0 hN_A rfl) (ova_get 1 hN_A rfl) (ova_get 2 hN_A rfl) rr10 hrr10) (cwV 1 hts gi_X14_485 rfl rfl rfl hd_X14_givesUp ⟨Nat.le_of_ble_eq_true rfl, Nat.le_of_ble_eq_true rfl⟩) shM.1 rfl rfl hl.1 (Nat.le_of_ble_eq_true rfl) dX14_give_61 ⟨Nat.le_refl _, Nat.le_refl _⟩ rfl (fun H locs hR hS => ?_)
      have hR : RS G K (ov I [(1100, o, (0 : Int32)), (1122, o, rr1.1), (1170, o, rr9.1), (1171, o, w6_i_outAt)]) J X (ova A [((o + 2), rr1.2), ((o + 32), rr10.2.1), ((o + 33), rr10.2.2), ((o + 34), rr9.2.2.2), ((o + 35), w6_a_heat), ((o + 36), w6_a_fuelWas), ((o + 37), w6_a_burnWas)]) B Q H := hR.to rfl rfl rfl (ova_merge (l := [((o + 2), rr1.2), ((o + 32), rr9.2.1), ((o + 33), rr9.2.2.1), ((o + 34), rr9.2.2.2), ((o + 35), w6_a_heat), ((o + 36), w6_a_fuelWas), ((o + 37), w6_a_burnWas)]) hN_A [0, 1, 2] [((o + 2), rr1.2), ((o + 32), rr10.2.1), ((o + 33), rr10.2.2)] rfl rfl) rfl rfl
      refine lv_istore (lv' := [(5, .int rr10.1), (0, .ref o), (1, .int p1), (2, .int w6_2), (3, .int w6_3), (4, .int w6_4)]) hx hb dX14_give_64 hl (by decide) rfl (fun ls hl => ?_)
      refine lv_aload_n hx hb dX14_give_66 rfl (lv_at hl 1 rfl) ?_
      refine lv_bipush (v := 30) hx hb dX14_give_67 lb_30 ?_
      refine lv_iload_n hx hb dX14_give_69 rfl (lv_at hl 2 rfl) ?_
      refine lv_iconst (v := 1) hx hb dX14_give_70 li_1 ?_
      refine lv_iconst (v := 0) hx hb dX14_give_71 li_0 ?_
      obtain ⟨rr11, hrr11, hf⟩ := bind_s hf
      refine g0_cVv (rm := (4, 100)) (As := [.int (30 : Int32), .int p1, .int (1 : Int32), .int (0 : Int32)]) (rest := []) ⟨hx, hb, hml, hown, hts⟩ hG hR hS (m14_fires l G K (ov I [(1100, o, (0 : Int32)), (1122, o, rr1.1), (1170, o, rr9.1), (1171, o, w6_i_outAt)]) J X (ova A [((o + 2), rr1.2), ((o + 32), rr10.2.1), ((o + 33), rr10.2.2), ((o + 34), rr9.2.2.2), ((o + 35), w6_a_heat), ((o + 36), w6_a_fuelWas), ((o + 37), w6_a_burnWas)]) B Q o shM (30 : Int32) p1 (1 : Int32) (0 : Int32) rr9.1 w6_i_outAt rr1.2 rr10.2.1 rr10.2.2 rr9.2.2.2 w6_a_heat w6_a_fuelWas w6_a_burnWas (ov_get 2 rfl rfl) (ov_get 3 rfl rfl) (ova_get 0 hN_A rfl) (ova_get 1 hN_A rfl) (ova_get 2 hN_A rfl) (ova_get 3 hN_A rfl) (ova_get 4 hN_A rfl) (ova_get 5 hN_A rfl) (ova_get 6 hN_A rfl) rr11 hrr11) (cwV 4 hts gi_X14_454 rfl rfl rfl hd_X14_fires ⟨Nat.le_of_ble_eq_true rfl, Nat.le_of_ble_eq_true rfl⟩) shM.1 rfl rfl hl.1 (Nat.le_of_ble_eq_true rfl) dX14_give_72 ⟨Nat.le_refl _, Nat.le_refl _⟩ rfl (fun H locs hR hS => ?_)
      have hR : RS G K (ov I [(1100, o, (0 : Int32)), (1122, o, rr1.1), (1170, o, rr11.1), (1171, o, rr11.2.1)]) J X (ova A [((o + 2), rr1.2), ((o + 32), rr11.2.2.1), ((o + 33), rr11.2.2.2.1), ((o + 34), rr11.2.2.2.2.1), ((o + 35), rr11.2.2.2.2.2.1), ((o + 36), rr11.2.2.2.2.2.2.1), ((o + 37), rr11.2.2.2.2.2.2.2)]) B Q H := hR.to (ov_merge (l := [(1100, o, (0 : Int32)), (1122, o, rr1.1), (1170, o, rr9.1), (1171, o, w6_i_outAt)]) rfl [2, 3] [(1170, o, rr11.1), (1171, o, rr11.2.1)] rfl rfl) rfl rfl (ova_merge (l := [((o + 2), rr1.2), ((o + 32), rr10.2.1), ((o + 33), rr10.2.2), ((o + 34), rr9.2.2.2), ((o + 35), w6_a_heat), ((o + 36), w6_a_fuelWas), ((o + 37), w6_a_burnWas)]) hN_A [0, 1, 2, 3, 4, 5, 6] [((o + 2), rr1.2), ((o + 32), rr11.2.2.1), ((o + 33), rr11.2.2.2.1), ((o + 34), rr11.2.2.2.2.1), ((o + 35), rr11.2.2.2.2.2.1), ((o + 36), rr11.2.2.2.2.2.2.1), ((o + 37), rr11.2.2.2.2.2.2.2)] rfl rfl) rfl rfl
      refine lv_aload_n hx hb dX14_give_75 rfl (lv_at hl 1 rfl) ?_
      refine n_geti (v := rr11.1) hx hb hts hown hG hR gFi_X14_423_11 shM.1 (ov_get 2 rfl rfl) dX14_give_76 ?_
      refine lv_iload hx hb dX14_give_79 (lv_at hl 0 rfl) ?_
      obtain ⟨v12, ev12, hf⟩ := lt_some hf
      refine n_iadd hx hb ev12 dX14_give_81 ?_
      refine lv_iload_n hx hb dX14_give_82 rfl (lv_at hl 3 rfl) ?_
      have hj100 : ∀ (j100_2 : Int32) (j100_3 : Int32), f14_give_j100 w6_4 rr11 j100_2 j100_3 = some o6 → ∀ (H : Heap) (locs : List Loc) (ls : Array Slot), RS G K (ov I [(1100, o, (0 : Int32)), (1122, o, rr1.1), (1170, o, rr11.1), (1171, o, rr11.2.1)]) J X (ova A [((o + 2), rr1.2), ((o + 32), rr11.2.2.1), ((o + 33), rr11.2.2.2.1), ((o + 34), rr11.2.2.2.2.1), ((o + 35), rr11.2.2.2.2.2.1), ((o + 36), rr11.2.2.2.2.2.2.1), ((o + 37), rr11.2.2.2.2.2.2.2)]) B Q H → va_S (gA G) s.heap H locs → lv_has ls 6 [(0, .ref o), (1, .int p1), (2, .int j100_2), (3, .int j100_3), (4, .int w6_4)] → W p l e ({ frames := 5, cells := 0, slots := 0, locals := 126 } : Room) s m args below meth c H locs 0 0 Z (F0 m 100 ls []) := by
        intro j100_2 j100_3 hf H locs ls hR hS hl
        unfold f14_give_j100 at hf
        obtain ⟨v13, ev13, hf⟩ := lt_some hf
        refine lv_iinc (k := 4) (v := v13) (lv' := [(4, .int v13), (0, .ref o), (1, .int p1), (2, .int j100_2), (3, .int j100_3)]) hx hb dX14_give_100 hl rfl (by rw [ev13]; rfl) (by decide) rfl (fun ls hl => ?_)
        refine lv_goto (tgt := 45) hx hb dX14_give_103 (by decide) ?_
        obtain rfl := some_i hf
        exact hk6 _ _ _ hR hS (lv_sub hl [1, 2, 3, 4, 0] rfl)
      refine lv_icmp_lt (tgt := 89) hx hb dX14_give_83 (by decide) (fun c14 => ?_) (fun c14 => ?_)
      · have hf := ite_t c14 hf
        refine lv_aload_n hx hb dX14_give_89 rfl (lv_at hl 1 rfl) ?_
        refine n_geti (v := rr11.1) hx hb hts hown hG hR gFi_X14_423_11 shM.1 (ov_get 2 rfl rfl) dX14_give_90 ?_
        refine lv_iload hx hb dX14_give_93 (lv_at hl 0 rfl) ?_
        obtain ⟨v15, ev15, hf⟩ := lt_some hf
        refine n_iadd hx hb ev15 dX14_give_95 ?_
        refine lv_istore_n (lv' := [(2, .int v15), (5, .int rr10.1), (0, .ref o), (1, .int p1), (3, .int w6_3), (4, .int w6_4)]) hx hb dX14_give_96 rfl hl (by decide) rfl (fun ls hl => ?_)
        refine lv_iload hx hb dX14_give_97 (lv_at hl 5 rfl) ?_
        refine lv_istore_n (lv' := [(3, .int w6_4), (2, .int v15), (5, .int rr10.1), (0, .ref o), (1, .int p1), (4, .int w6_4)]) hx hb dX14_give_99 rfl hl (by decide) rfl (fun ls hl => ?_)
        exact hj100 v15 w6_4 hf _ _ _ hR hS (lv_sub hl [3, 4, 1, 0, 5] rfl)
      · have hf := ite_f c14 hf
        refine lv_goto (tgt := 100) hx hb dX14_give_86 (by decide) ?_
        exact hj100 w6_2 w6_3 hf _ _ _ hR hS (lv_sub hl [1, 2, 3, 4, 5] rfl)
  · have hf := ite_t c3 hf
    refine lv_iconst (v := -1) hx hb dX14_give_20 li_m1 ?_
    obtain rfl := some_i hf
    exact hend _ _ _ _ dX14_give_21 hR hS
noncomputable def f14_enough_e6_0 (rr1 : Int32 × (Nat → Int32)) (x6_0 : Int32 × Int32 × Int32 × (Nat → Int32) × (Nat → Int32) × (Nat → Int32) × (Nat → Int32) × (Nat → Int32) × (Nat → Int32)) : Option (Int32 × Int32 × Int32 × Int32 × Int32 × (Nat → Int32) × (Nat → Int32) × (Nat → Int32) × (Nat → Int32) × (Nat → Int32) × (Nat → Int32) × (Nat → Int32)) :=
  some (x6_0.1, (0 : Int32), rr1.1, x6_0.2.1, x6_0.2.2.1, rr1.2, x6_0.2.2.2.1, x6_0.2.2.2.2.1, x6_0.2.2.2.2.2.1, x6_0.2.2.2.2.2.2.1, x6_0.2.2.2.2.2.2.2.1, x6_0.2.2.2.2.2.2.2.2)

noncomputable def f14_enough_e6_1 (x6_1 : Int32 × Int32 × Int32 × Int32 × Int32 × (Nat → Int32) × (Nat → Int32) × (Nat → Int32) × (Nat → Int32) × (Nat → Int32) × (Nat → Int32) × (Nat → Int32)) : Option (Int32 × Int32 × Int32 × Int32 × Int32 × (Nat → Int32) × (Nat → Int32) × (Nat → Int32) × (Nat → Int32) × (Nat → Int32) × (Nat → Int32) × (Nat → Int32)) :=
  some x6_1

noncomputable def f14_enough_s6 (p1 : Int32) (p2 : Int32) (rr1 : Int32 × (Nat → Int32)) (w6_3 : Int32) (w6_i_lost : Int32) (w6_i_outAt : Int32) (w6_a_fuel : Nat → Int32) (w6_a_burn : Nat → Int32) (w6_a_wet : Nat → Int32) (w6_a_heat : Nat → Int32) (w6_a_fuelWas : Nat → Int32) (w6_a_burnWas : Nat → Int32) : Option ((Int32 × Int32 × Int32 × (Nat → Int32) × (Nat → Int32) × (Nat → Int32) × (Nat → Int32) × (Nat → Int32) × (Nat → Int32)) ⊕ ((Int32 × Int32 × Int32 × (Nat → Int32) × (Nat → Int32) × (Nat → Int32) × (Nat → Int32) × (Nat → Int32) × (Nat → Int32)) ⊕ (Int32 × Int32 × Int32 × Int32 × Int32 × (Nat → Int32) × (Nat → Int32) × (Nat → Int32) × (Nat → Int32) × (Nat → Int32) × (Nat → Int32) × (Nat → Int32)))) :=
  if (200 : Int32) < w6_3 then
    some (.inr (.inr ((-1 : Int32), (0 : Int32), rr1.1, w6_i_lost, w6_i_outAt, rr1.2, w6_a_fuel, w6_a_burn, w6_a_wet, w6_a_heat, w6_a_fuelWas, w6_a_burnWas)))
  else
    (f14_light w6_i_lost rr1.2 w6_a_fuel w6_a_burn w6_a_wet).bind fun rr8 =>
    (f14_fires p2 w6_3 p1 (0 : Int32) rr8.1 w6_i_outAt rr1.2 rr8.2.1 rr8.2.2.1 rr8.2.2.2 w6_a_heat w6_a_fuelWas w6_a_burnWas).bind fun rr9 =>
    if rr9.2.1 = (-1 : Int32) then
      lt (w6_3 + (1 : Int32)) fun v11 =>
      some (.inl (v11, rr9.1, rr9.2.1, rr9.2.2.1, rr9.2.2.2.1, rr9.2.2.2.2.1, rr9.2.2.2.2.2.1, rr9.2.2.2.2.2.2.1, rr9.2.2.2.2.2.2.2))
    else
      some (.inr (.inl (w6_3, rr9.1, rr9.2.1, rr9.2.2.1, rr9.2.2.2.1, rr9.2.2.2.2.1, rr9.2.2.2.2.2.1, rr9.2.2.2.2.2.2.1, rr9.2.2.2.2.2.2.2)))

noncomputable def f14_enough (p1 : Int32) (p2 : Int32) (i_thrown : Int32) (i_isBegun : Int32) (i_lost : Int32) (i_outAt : Int32) (a_now : Nat → Int32) (a_fuel : Nat → Int32) (a_burn : Nat → Int32) (a_wet : Nat → Int32) (a_heat : Nat → Int32) (a_fuelWas : Nat → Int32) (a_burnWas : Nat → Int32) : Option (Int32 × Int32 × Int32 × Int32 × Int32 × (Nat → Int32) × (Nat → Int32) × (Nat → Int32) × (Nat → Int32) × (Nat → Int32) × (Nat → Int32) × (Nat → Int32)) :=
  (f14_lay i_isBegun a_now).bind fun rr1 =>
  (f14_isAim p1 rr1.2).bind fun rr2 =>
  if rr2 = 0 then
    some ((-2 : Int32), (0 : Int32), rr1.1, i_lost, i_outAt, rr1.2, a_fuel, a_burn, a_wet, a_heat, a_fuelWas, a_burnWas)
  else
    (f14_isIn p2 (1 : Int32) (60 : Int32)).bind fun rr4 =>
    if rr4 = 0 then
      some ((-2 : Int32), (0 : Int32), rr1.1, i_lost, i_outAt, rr1.2, a_fuel, a_burn, a_wet, a_heat, a_fuelWas, a_burnWas)
    else
      (whl (fun (s6 : Int32 × Int32 × Int32 × (Nat → Int32) × (Nat → Int32) × (Nat → Int32) × (Nat → Int32) × (Nat → Int32) × (Nat → Int32)) => f14_enough_s6 p1 p2 rr1 s6.1 s6.2.1 s6.2.2.1 s6.2.2.2.1 s6.2.2.2.2.1 s6.2.2.2.2.2.1 s6.2.2.2.2.2.2.1 s6.2.2.2.2.2.2.2.1 s6.2.2.2.2.2.2.2.2) FU ((0 : Int32), i_lost, i_outAt, a_fuel, a_burn, a_wet, a_heat, a_fuelWas, a_burnWas)).bind fun rl6 =>
      Sum.elim (f14_enough_e6_0 rr1) (f14_enough_e6_1) rl6
set_option maxHeartbeats 4000000 in
theorem m14_enough (l : Launch) (G : gG) (K : gK) (I : gI) (J : gJ) (X : gX) (A : gI) (B : gJ) (Q : gX) (o : Nat) (shM : Sh K X o 11 rows11) (p1 : Int32) (p2 : Int32) (i_thrown : Int32) (i_isBegun : Int32) (i_lost : Int32) (i_outAt : Int32) (a_now : Nat → Int32) (a_fuel : Nat → Int32) (a_burn : Nat → Int32) (a_wet : Nat → Int32) (a_heat : Nat → Int32) (a_fuelWas : Nat → Int32) (a_burnWas : Nat → Int32) (e_i_thrown : I 1100 o = i_thrown) (e_i_isBegun : I 1122 o = i_isBegun) (e_i_lost : I 1170 o = i_lost) (e_i_outAt : I 1171 o = i_outAt) (e_a_now : A (o + 2) = a_now) (e_a_fuel : A (o + 32) = a_fuel) (e_a_burn : A (o + 33) = a_burn) (e_a_wet : A (o + 34) = a_wet) (e_a_heat : A (o + 35) = a_heat) (e_a_fuelWas : A (o + 36) = a_fuelWas) (e_a_burnWas : A (o + 37) = a_burnWas) (out : Int32 × Int32 × Int32 × Int32 × Int32 × (Nat → Int32) × (Nat → Int32) × (Nat → Int32) × (Nat → Int32) × (Nat → Int32) × (Nat → Int32) × (Nat → Int32)) (hf : f14_enough p1 p2 i_thrown i_isBegun i_lost i_outAt a_now a_fuel a_burn a_wet a_heat a_fuelWas a_burnWas = some out) : GMet l yX14_enough cX14_enough 4 (some .int) (5) (126) G [.ref o, .int p1, .int p2] K I J X A B Q (some (.int out.1)) K (ov I [(1100, o, out.2.1), (1122, o, out.2.2.1), (1170, o, out.2.2.2.1), (1171, o, out.2.2.2.2.1)]) J X (ova A [((o + 2), out.2.2.2.2.2.1), ((o + 32), out.2.2.2.2.2.2.1), ((o + 33), out.2.2.2.2.2.2.2.1), ((o + 34), out.2.2.2.2.2.2.2.2.1), ((o + 35), out.2.2.2.2.2.2.2.2.2.1), ((o + 36), out.2.2.2.2.2.2.2.2.2.2.1), ((o + 37), out.2.2.2.2.2.2.2.2.2.2.2)]) B Q 0 0 := by
  refine GMet.of (y := yX14_enough) rfl (Nat.le_of_ble_eq_true rfl) rfl ?_
  intro p e s m below meth c ls hx hb hr hml hlocks hts hown hname hG hR hl
  have hown : s.vm.findClass RX14 = some m.cls := hown
  have k_a_now : K (o + 2) = some (.inr (0, 800)) := (shM.2 1 _ rfl).1
  have k_a_fuel : K (o + 32) = some (.inr (0, 64)) := (shM.2 31 _ rfl).1
  have k_a_burn : K (o + 33) = some (.inr (0, 64)) := (shM.2 32 _ rfl).1
  have k_a_wet : K (o + 34) = some (.inr (0, 64)) := (shM.2 33 _ rfl).1
  have k_a_heat : K (o + 35) = some (.inr (0, 64)) := (shM.2 34 _ rfl).1
  have k_a_fuelWas : K (o + 36) = some (.inr (0, 3904)) := (shM.2 35 _ rfl).1
  have k_a_burnWas : K (o + 37) = some (.inr (0, 3904)) := (shM.2 36 _ rfl).1
  have hN_A : nda [(o + 2), (o + 32), (o + 33), (o + 34), (o + 35), (o + 36), (o + 37)] := nd_off o [2, 32, 33, 34, 35, 36, 37] rfl
  have hR : RS G K (ov I [(1100, o, i_thrown), (1122, o, i_isBegun), (1170, o, i_lost), (1171, o, i_outAt)]) J X (ova A [((o + 2), a_now), ((o + 32), a_fuel), ((o + 33), a_burn), ((o + 34), a_wet), ((o + 35), a_heat), ((o + 36), a_fuelWas), ((o + 37), a_burnWas)]) B Q s.heap := hR.to (Eq.symm (ov_sc e_i_thrown (ov_sc e_i_isBegun (ov_sc e_i_lost (ov_sc e_i_outAt rfl))))) rfl rfl (Eq.symm (ova_sc e_a_now (ova_sc e_a_fuel (ova_sc e_a_burn (ova_sc e_a_wet (ova_sc e_a_heat (ova_sc e_a_fuelWas (ova_sc e_a_burnWas rfl)))))))) rfl rfl
  have hS : va_S (gA G) s.heap s.heap [] := va_S.rf
  have hend : ∀ (pc : Nat) (H : Heap) (locs : List Loc) (ls : Array Slot), decode cX14_enough pc = .ok (.ireturn, 1) → RS G K (ov I [(1100, o, out.2.1), (1122, o, out.2.2.1), (1170, o, out.2.2.2.1), (1171, o, out.2.2.2.2.1)]) J X (ova A [((o + 2), out.2.2.2.2.2.1), ((o + 32), out.2.2.2.2.2.2.1), ((o + 33), out.2.2.2.2.2.2.2.1), ((o + 34), out.2.2.2.2.2.2.2.2.1), ((o + 35), out.2.2.2.2.2.2.2.2.2.1), ((o + 36), out.2.2.2.2.2.2.2.2.2.2.1), ((o + 37), out.2.2.2.2.2.2.2.2.2.2.2)]) B Q H → va_S (gA G) s.heap H locs → W p l e ({ frames := 5, cells := 0, slots := 0, locals := 126 } : Room) s m ([.ref o, .int p1, .int p2] : List Value).toArray below meth c H locs 0 0 (MQ below (gQ G (some (.int out.1)) K (ov I [(1100, o, out.2.1), (1122, o, out.2.2.1), (1170, o, out.2.2.2.1), (1171, o, out.2.2.2.2.1)]) J X (ova A [((o + 2), out.2.2.2.2.2.1), ((o + 32), out.2.2.2.2.2.2.1), ((o + 33), out.2.2.2.2.2.2.2.1), ((o + 34), out.2.2.2.2.2.2.2.2.1), ((o + 35), out.2.2.2.2.2.2.2.2.2.1), ((o + 36), out.2.2.2.2.2.2.2.2.2.2.1), ((o + 37), out.2.2.2.2.2.2.2.2.2.2.2)]) B Q) ([.ref o, .int p1, .int p2] : List Value).toArray s 0 0 (gA G)) (F0 m pc ls [.int out.1]) := fun pc H locs ls hd hR hS => g_iret hx hb hr hlocks hG hR hS rfl hd
  generalize MQ below (gQ G (some (.int out.1)) K (ov I [(1100, o, out.2.1), (1122, o, out.2.2.1), (1170, o, out.2.2.2.1), (1171, o, out.2.2.2.2.1)]) J X (ova A [((o + 2), out.2.2.2.2.2.1), ((o + 32), out.2.2.2.2.2.2.1), ((o + 33), out.2.2.2.2.2.2.2.1), ((o + 34), out.2.2.2.2.2.2.2.2.1), ((o + 35), out.2.2.2.2.2.2.2.2.2.1), ((o + 36), out.2.2.2.2.2.2.2.2.2.2.1), ((o + 37), out.2.2.2.2.2.2.2.2.2.2.2)]) B Q) ([.ref o, .int p1, .int p2] : List Value).toArray s 0 0 (gA G) = Z at hend ⊢
  generalize ([.ref o, .int p1, .int p2] : List Value).toArray = args at hts hend ⊢
  unfold f14_enough at hf
  refine lv_aload_n hx hb dX14_enough_0 rfl (lv_at hl 0 rfl) ?_
  refine lv_iconst (v := 0) hx hb dX14_enough_1 li_0 ?_
  refine n_puti (li' := [(1100, o, (0 : Int32)), (1122, o, i_isBegun), (1170, o, i_lost), (1171, o, i_outAt)]) hx hb hts hown hG hR hS gPi_X14_148_11 shM.1 0 rfl rfl rfl dX14_enough_2 (fun H locs hR hS => ?_)
  refine lv_aload_n hx hb dX14_enough_5 rfl (lv_at hl 0 rfl) ?_
  obtain ⟨rr1, hrr1, hf⟩ := bind_s hf
  refine g0_cVv (rm := (1, 21)) (As := []) (rest := []) ⟨hx, hb, hml, hown, hts⟩ hG hR hS (m14_lay l G K (ov I [(1100, o, (0 : Int32)), (1122, o, i_isBegun), (1170, o, i_lost), (1171, o, i_outAt)]) J X (ova A [((o + 2), a_now), ((o + 32), a_fuel), ((o + 33), a_burn), ((o + 34), a_wet), ((o + 35), a_heat), ((o + 36), a_fuelWas), ((o + 37), a_burnWas)]) B Q o shM i_isBegun a_now (ov_get 1 rfl rfl) (ova_get 0 hN_A rfl) rr1 hrr1) (cwV 0 hts gi_X14_232 rfl rfl rfl hd_X14_lay ⟨Nat.le_of_ble_eq_true rfl, Nat.le_of_ble_eq_true rfl⟩) shM.1 rfl rfl hl.1 (Nat.le_of_ble_eq_true rfl) dX14_enough_6 ⟨Nat.le_refl _, Nat.le_refl _⟩ rfl (fun H locs hR hS => ?_)
  have hR : RS G K (ov I [(1100, o, (0 : Int32)), (1122, o, rr1.1), (1170, o, i_lost), (1171, o, i_outAt)]) J X (ova A [((o + 2), rr1.2), ((o + 32), a_fuel), ((o + 33), a_burn), ((o + 34), a_wet), ((o + 35), a_heat), ((o + 36), a_fuelWas), ((o + 37), a_burnWas)]) B Q H := hR.to (ov_merge (l := [(1100, o, (0 : Int32)), (1122, o, i_isBegun), (1170, o, i_lost), (1171, o, i_outAt)]) rfl [1] [(1122, o, rr1.1)] rfl rfl) rfl rfl (ova_merge (l := [((o + 2), a_now), ((o + 32), a_fuel), ((o + 33), a_burn), ((o + 34), a_wet), ((o + 35), a_heat), ((o + 36), a_fuelWas), ((o + 37), a_burnWas)]) hN_A [0] [((o + 2), rr1.2)] rfl rfl) rfl rfl
  refine lv_aload_n hx hb dX14_enough_9 rfl (lv_at hl 0 rfl) ?_
  refine lv_iload_n hx hb dX14_enough_10 rfl (lv_at hl 1 rfl) ?_
  obtain ⟨rr2, hrr2, hf⟩ := bind_s hf
  refine g0_cV (rm := (1, 22)) (As := [.int p1]) (rest := []) ⟨hx, hb, hml, hown, hts⟩ hG hR hS (m14_isAim l G K (ov I [(1100, o, (0 : Int32)), (1122, o, rr1.1), (1170, o, i_lost), (1171, o, i_outAt)]) J X (ova A [((o + 2), rr1.2), ((o + 32), a_fuel), ((o + 33), a_burn), ((o + 34), a_wet), ((o + 35), a_heat), ((o + 36), a_fuelWas), ((o + 37), a_burnWas)]) B Q o shM p1 rr1.2 (ova_get 0 hN_A rfl) rr2 hrr2) (cwV 1 hts gi_X14_448 rfl rfl rfl hd_X14_isAim ⟨Nat.le_of_ble_eq_true rfl, Nat.le_of_ble_eq_true rfl⟩) shM.1 rfl rfl hl.1 (Nat.le_of_ble_eq_true rfl) dX14_enough_11 ⟨Nat.le_refl _, Nat.le_refl _⟩ rfl (fun H locs hR hS => ?_)
  refine lv_if_eq (tgt := 27) hx hb dX14_enough_14 (by decide) (fun c3 => ?_) (fun c3 => ?_)
  · have hf := ite_t c3 hf
    refine lv_bipush (v := -2) hx hb dX14_enough_27 lb_m2 ?_
    obtain rfl := some_i hf
    exact hend _ _ _ _ dX14_enough_29 hR hS
  · have hf := ite_f c3 hf
    refine lv_iload_n hx hb dX14_enough_17 rfl (lv_at hl 2 rfl) ?_
    refine lv_iconst (v := 1) hx hb dX14_enough_18 li_1 ?_
    refine lv_bipush (v := 60) hx hb dX14_enough_19 lb_60 ?_
    obtain ⟨rr4, hrr4, hf⟩ := bind_s hf
    refine g0_cS (rm := (0, 0)) (As := [.int p2, .int (1 : Int32), .int (60 : Int32)]) (rest := []) ⟨hx, hb, hml, hown, hts⟩ hG hR hS (m14_isIn l G K (ov I [(1100, o, (0 : Int32)), (1122, o, rr1.1), (1170, o, i_lost), (1171, o, i_outAt)]) J X (ova A [((o + 2), rr1.2), ((o + 32), a_fuel), ((o + 33), a_burn), ((o + 34), a_wet), ((o + 35), a_heat), ((o + 36), a_fuelWas), ((o + 37), a_burnWas)]) B Q p2 (1 : Int32) (60 : Int32) rr4 hrr4) (cwS 3 hts gi_X14_219 rfl rfl rfl hd_X14_isIn ⟨Nat.le_of_ble_eq_true rfl, Nat.le_of_ble_eq_true rfl⟩) rfl hl.1 (Nat.le_of_ble_eq_true rfl) dX14_enough_21 ⟨Nat.le_refl _, Nat.le_refl _⟩ rfl (fun H locs hR hS => ?_)
    refine lv_if_ne (tgt := 30) hx hb dX14_enough_24 (by decide) (fun c5 => ?_) (fun c5 => ?_)
    · have hf := ite_f c5 hf
      refine lv_iconst (v := 0) hx hb dX14_enough_30 li_0 ?_
      refine lv_istore_n (lv' := [(3, .int (0 : Int32)), (0, .ref o), (1, .int p1), (2, .int p2)]) hx hb dX14_enough_31 rfl hl (by decide) rfl (fun ls hl => ?_)
      obtain ⟨rl6, hw6, hfo6⟩ := bind_s hf
      have hx6_0 : ∀ (x6_0 : Int32 × Int32 × Int32 × (Nat → Int32) × (Nat → Int32) × (Nat → Int32) × (Nat → Int32) × (Nat → Int32) × (Nat → Int32)), f14_enough_e6_0 rr1 x6_0 = some out → ∀ (H : Heap) (locs : List Loc) (ls : Array Slot), RS G K (ov I [(1100, o, (0 : Int32)), (1122, o, rr1.1), (1170, o, x6_0.2.1), (1171, o, x6_0.2.2.1)]) J X (ova A [((o + 2), rr1.2), ((o + 32), x6_0.2.2.2.1), ((o + 33), x6_0.2.2.2.2.1), ((o + 34), x6_0.2.2.2.2.2.1), ((o + 35), x6_0.2.2.2.2.2.2.1), ((o + 36), x6_0.2.2.2.2.2.2.2.1), ((o + 37), x6_0.2.2.2.2.2.2.2.2)]) B Q H → va_S (gA G) s.heap H locs → lv_has ls 4 [(0, .ref o), (3, .int x6_0.1)] → W p l e ({ frames := 5, cells := 0, slots := 0, locals := 126 } : Room) s m args below meth c H locs 0 0 Z (F0 m 59 ls []) := by
        intro x6_0 hf H locs ls hR hS hl
        unfold f14_enough_e6_0 at hf
        refine lv_iload_n hx hb dX14_enough_59 rfl (lv_at hl 1 rfl) ?_
        obtain rfl := some_i hf
        exact hend _ _ _ _ dX14_enough_60 hR hS
      have hx6_1 : ∀ (x6_1 : Int32 × Int32 × Int32 × Int32 × Int32 × (Nat → Int32) × (Nat → Int32) × (Nat → Int32) × (Nat → Int32) × (Nat → Int32) × (Nat → Int32) × (Nat → Int32)), f14_enough_e6_1 x6_1 = some out → ∀ (pc : Nat) (H : Heap) (locs : List Loc) (ls : Array Slot), decode cX14_enough pc = .ok (.ireturn, 1) → RS G K (ov I [(1100, o, x6_1.2.1), (1122, o, x6_1.2.2.1), (1170, o, x6_1.2.2.2.1), (1171, o, x6_1.2.2.2.2.1)]) J X (ova A [((o + 2), x6_1.2.2.2.2.2.1), ((o + 32), x6_1.2.2.2.2.2.2.1), ((o + 33), x6_1.2.2.2.2.2.2.2.1), ((o + 34), x6_1.2.2.2.2.2.2.2.2.1), ((o + 35), x6_1.2.2.2.2.2.2.2.2.2.1), ((o + 36), x6_1.2.2.2.2.2.2.2.2.2.2.1), ((o + 37), x6_1.2.2.2.2.2.2.2.2.2.2.2)]) B Q H → va_S (gA G) s.heap H locs → W p l e ({ frames := 5, cells := 0, slots := 0, locals := 126 } : Room) s m args below meth c H locs 0 0 Z (F0 m pc ls [.int x6_1.1]) := by
        intro x6_1 hf pc H locs ls hd hR hS
        unfold f14_enough_e6_1 at hf
        obtain rfl := some_i hf
        exact hend _ _ _ _ hd hR hS
      refine whl_walk (P := fun (s6 : Int32 × Int32 × Int32 × (Nat → Int32) × (Nat → Int32) × (Nat → Int32) × (Nat → Int32) × (Nat → Int32) × (Nat → Int32)) => ∀ (H : Heap) (locs : List Loc) (ls : Array Slot), RS G K (ov I [(1100, o, (0 : Int32)), (1122, o, rr1.1), (1170, o, s6.2.1), (1171, o, s6.2.2.1)]) J X (ova A [((o + 2), rr1.2), ((o + 32), s6.2.2.2.1), ((o + 33), s6.2.2.2.2.1), ((o + 34), s6.2.2.2.2.2.1), ((o + 35), s6.2.2.2.2.2.2.1), ((o + 36), s6.2.2.2.2.2.2.2.1), ((o + 37), s6.2.2.2.2.2.2.2.2)]) B Q H → va_S (gA G) s.heap H locs → lv_has ls 4 [(0, .ref o), (1, .int p1), (2, .int p2), (3, .int s6.1)] → W p l e ({ frames := 5, cells := 0, slots := 0, locals := 126 } : Room) s m args below meth c H locs 0 0 Z (F0 m 32 ls [])) (r := rl6) ?_ FU _ hw6 _ _ _ hR hS (lv_sub hl [1, 2, 3, 0] rfl)
      clear hR hS hl hf
      intro s6 o6 hf hk6 H locs ls hR hS hl
      obtain ⟨w6_3, w6_i_lost, w6_i_outAt, w6_a_fuel, w6_a_burn, w6_a_wet, w6_a_heat, w6_a_fuelWas, w6_a_burnWas⟩ := s6
      have hf : f14_enough_s6 p1 p2 rr1 w6_3 w6_i_lost w6_i_outAt w6_a_fuel w6_a_burn w6_a_wet w6_a_heat w6_a_fuelWas w6_a_burnWas = some o6 := hf
      have hR : RS G K (ov I [(1100, o, (0 : Int32)), (1122, o, rr1.1), (1170, o, w6_i_lost), (1171, o, w6_i_outAt)]) J X (ova A [((o + 2), rr1.2), ((o + 32), w6_a_fuel), ((o + 33), w6_a_burn), ((o + 34), w6_a_wet), ((o + 35), w6_a_heat), ((o + 36), w6_a_fuelWas), ((o + 37), w6_a_burnWas)]) B Q H := hR
      have hl : lv_has ls 4 [(0, .ref o), (1, .int p1), (2, .int p2), (3, .int w6_3)] := hl
      unfold f14_enough_s6 at hf
      refine lv_iload_n hx hb dX14_enough_32 rfl (lv_at hl 3 rfl) ?_
      refine lv_sipush (v := 200) hx hb dX14_enough_33 ls_200 ?_
      refine lv_icmp_gt (tgt := 67) hx hb dX14_enough_36 (by decide) (fun c7 => ?_) (fun c7 => ?_)
      · have hf := ite_t c7 hf
        refine lv_iconst (v := -1) hx hb dX14_enough_67 li_m1 ?_
        obtain rfl := some_i hf
        replace hk6 : _ = rl6 := hk6
        subst hk6
        exact hx6_1 ((-1 : Int32), (0 : Int32), rr1.1, w6_i_lost, w6_i_outAt, rr1.2, w6_a_fuel, w6_a_burn, w6_a_wet, w6_a_heat, w6_a_fuelWas, w6_a_burnWas) (el_r hfo6) _ _ _ _ dX14_enough_68 hR hS
      · have hf := ite_f c7 hf
        refine lv_aload_n hx hb dX14_enough_39 rfl (lv_at hl 0 rfl) ?_
        obtain ⟨rr8, hrr8, hf⟩ := bind_s hf
        refine g0_cVv (rm := (1, 20)) (As := []) (rest := []) ⟨hx, hb, hml, hown, hts⟩ hG hR hS (m14_light l G K (ov I [(1100, o, (0 : Int32)), (1122, o, rr1.1), (1170, o, w6_i_lost), (1171, o, w6_i_outAt)]) J X (ova A [((o + 2), rr1.2), ((o + 32), w6_a_fuel), ((o + 33), w6_a_burn), ((o + 34), w6_a_wet), ((o + 35), w6_a_heat), ((o + 36), w6_a_fuelWas), ((o + 37), w6_a_burnWas)]) B Q o shM w6_i_lost rr1.2 w6_a_fuel w6_a_burn w6_a_wet (ov_get 2 rfl rfl) (ova_get 0 hN_A rfl) (ova_get 1 hN_A rfl) (ova_get 2 hN_A rfl) (ova_get 3 hN_A rfl) rr8 hrr8) (cwV 0 hts gi_X14_451 rfl rfl rfl hd_X14_light ⟨Nat.le_of_ble_eq_true rfl, Nat.le_of_ble_eq_true rfl⟩) shM.1 rfl rfl hl.1 (Nat.le_of_ble_eq_true rfl) dX14_enough_40 ⟨Nat.le_refl _, Nat.le_refl _⟩ rfl (fun H locs hR hS => ?_)
        have hR : RS G K (ov I [(1100, o, (0 : Int32)), (1122, o, rr1.1), (1170, o, rr8.1), (1171, o, w6_i_outAt)]) J X (ova A [((o + 2), rr1.2), ((o + 32), rr8.2.1), ((o + 33), rr8.2.2.1), ((o + 34), rr8.2.2.2), ((o + 35), w6_a_heat), ((o + 36), w6_a_fuelWas), ((o + 37), w6_a_burnWas)]) B Q H := hR.to (ov_merge (l := [(1100, o, (0 : Int32)), (1122, o, rr1.1), (1170, o, w6_i_lost), (1171, o, w6_i_outAt)]) rfl [2] [(1170, o, rr8.1)] rfl rfl) rfl rfl (ova_merge (l := [((o + 2), rr1.2), ((o + 32), w6_a_fuel), ((o + 33), w6_a_burn), ((o + 34), w6_a_wet), ((o + 35), w6_a_heat), ((o + 36), w6_a_fuelWas), ((o + 37), w6_a_burnWas)]) hN_A [0, 1, 2, 3] [((o + 2), rr1.2), ((o + 32), rr8.2.1), ((o + 33), rr8.2.2.1), ((o + 34), rr8.2.2.2)] rfl rfl) rfl rfl
        refine lv_aload_n hx hb dX14_enough_43 rfl (lv_at hl 0 rfl) ?_
        refine lv_iload_n hx hb dX14_enough_44 rfl (lv_at hl 2 rfl) ?_
        refine lv_iload_n hx hb dX14_enough_45 rfl (lv_at hl 3 rfl) ?_
        refine lv_iload_n hx hb dX14_enough_46 rfl (lv_at hl 1 rfl) ?_
        refine lv_iconst (v := 0) hx hb dX14_enough_47 li_0 ?_
        obtain ⟨rr9, hrr9, hf⟩ := bind_s hf
        refine g0_cVv (rm := (4, 100)) (As := [.int p2, .int w6_3, .int p1, .int (0 : Int32)]) (rest := []) ⟨hx, hb, hml, hown, hts⟩ hG hR hS (m14_fires l G K (ov I [(1100, o, (0 : Int32)), (1122, o, rr1.1), (1170, o, rr8.1), (1171, o, w6_i_outAt)]) J X (ova A [((o + 2), rr1.2), ((o + 32), rr8.2.1), ((o + 33), rr8.2.2.1), ((o + 34), rr8.2.2.2), ((o + 35), w6_a_heat), ((o + 36), w6_a_fuelWas), ((o + 37), w6_a_burnWas)]) B Q o shM p2 w6_3 p1 (0 : Int32) rr8.1 w6_i_outAt rr1.2 rr8.2.1 rr8.2.2.1 rr8.2.2.2 w6_a_heat w6_a_fuelWas w6_a_burnWas (ov_get 2 rfl rfl) (ov_get 3 rfl rfl) (ova_get 0 hN_A rfl) (ova_get 1 hN_A rfl) (ova_get 2 hN_A rfl) (ova_get 3 hN_A rfl) (ova_get 4 hN_A rfl) (ova_get 5 hN_A rfl) (ova_get 6 hN_A rfl) rr9 hrr9) (cwV 4 hts gi_X14_454 rfl rfl rfl hd_X14_fires ⟨Nat.le_of_ble_eq_true rfl, Nat.le_of_ble_eq_true rfl⟩) shM.1 rfl rfl hl.1 (Nat.le_of_ble_eq_true rfl) dX14_enough_48 ⟨Nat.le_refl _, Nat.le_refl _⟩ rfl (fun H locs hR hS => ?_)
        have hR : RS G K (ov I [(1100, o, (0 : Int32)), (1122, o, rr1.1), (1170, o, rr9.1), (1171, o, rr9.2.1)]) J X (ova A [((o + 2), rr1.2), ((o + 32), rr9.2.2.1), ((o + 33), rr9.2.2.2.1), ((o + 34), rr9.2.2.2.2.1), ((o + 35), rr9.2.2.2.2.2.1), ((o + 36), rr9.2.2.2.2.2.2.1), ((o + 37), rr9.2.2.2.2.2.2.2)]) B Q H := hR.to (ov_merge (l := [(1100, o, (0 : Int32)), (1122, o, rr1.1), (1170, o, rr8.1), (1171, o, w6_i_outAt)]) rfl [2, 3] [(1170, o, rr9.1), (1171, o, rr9.2.1)] rfl rfl) rfl rfl (ova_merge (l := [((o + 2), rr1.2), ((o + 32), rr8.2.1), ((o + 33), rr8.2.2.1), ((o + 34), rr8.2.2.2), ((o + 35), w6_a_heat), ((o + 36), w6_a_fuelWas), ((o + 37), w6_a_burnWas)]) hN_A [0, 1, 2, 3, 4, 5, 6] [((o + 2), rr1.2), ((o + 32), rr9.2.2.1), ((o + 33), rr9.2.2.2.1), ((o + 34), rr9.2.2.2.2.1), ((o + 35), rr9.2.2.2.2.2.1), ((o + 36), rr9.2.2.2.2.2.2.1), ((o + 37), rr9.2.2.2.2.2.2.2)] rfl rfl) rfl rfl
        refine lv_aload_n hx hb dX14_enough_51 rfl (lv_at hl 0 rfl) ?_
        refine n_geti (v := rr9.2.1) hx hb hts hown hG hR gFi_X14_439_11 shM.1 (ov_get 3 rfl rfl) dX14_enough_52 ?_
        refine lv_iconst (v := -1) hx hb dX14_enough_55 li_m1 ?_
        refine lv_icmp_eq (tgt := 61) hx hb dX14_enough_56 (by decide) (fun c10 => ?_) (fun c10 => ?_)
        · have hf := ite_t c10 hf
          obtain ⟨v11, ev11, hf⟩ := lt_some hf
          refine lv_iinc (k := 3) (v := v11) (lv' := [(3, .int v11), (0, .ref o), (1, .int p1), (2, .int p2)]) hx hb dX14_enough_61 hl rfl (by rw [ev11]; rfl) (by decide) rfl (fun ls hl => ?_)
          refine lv_goto (tgt := 32) hx hb dX14_enough_64 (by decide) ?_
          obtain rfl := some_i hf
          exact hk6 _ _ _ hR hS (lv_sub hl [1, 2, 3, 0] rfl)
        · have hf := ite_f c10 hf
          obtain rfl := some_i hf
          replace hk6 : _ = rl6 := hk6
          subst hk6
          exact hx6_0 (w6_3, rr9.1, rr9.2.1, rr9.2.2.1, rr9.2.2.2.1, rr9.2.2.2.2.1, rr9.2.2.2.2.2.1, rr9.2.2.2.2.2.2.1, rr9.2.2.2.2.2.2.2) (el_l hfo6) _ _ _ hR hS (lv_sub hl [0, 3] rfl)
    · have hf := ite_t c5 hf
      refine lv_bipush (v := -2) hx hb dX14_enough_27 lb_m2 ?_
      obtain rfl := some_i hf
      exact hend _ _ _ _ dX14_enough_29 hR hS
