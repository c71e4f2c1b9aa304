/-! the walks of PailRow (printed by tools) 4 -/
set_option maxRecDepth 100000
noncomputable def f1_orders_e2_0 (x2_0 : Int32 × Int32 × Int32 × Int32 × Int32 × Int32 × Int32 × Int32 × Int32 × Int32 × (Option Nat) × (Nat → Int32) × (Nat → Int32) × (Nat → Int32) × (Nat → Int32) × (Nat → Int32) × (Nat → Int32) × (Nat → Int32) × (Nat → Int32) × (Nat → Int32)) : Option (Int32 × Int32 × Int32 × Int32 × Int32 × Int32 × Int32 × Int32 × Int32 × Int32 × (Option Nat) × (Nat → Int32) × (Nat → Int32) × (Nat → Int32) × (Nat → Int32) × (Nat → Int32) × (Nat → Int32) × (Nat → Int32) × (Nat → Int32) × (Nat → Int32)) :=
  some x2_0

noncomputable def f1_orders_j115 (w2_3 : Int32) (j115_i_bestPeriod : Int32) (j115_i_o16_many : Int32) (j115_i_o16_water : Int32) (j115_i_o16_thrown : Int32) (j115_i_o16_tick : Int32) (j115_i_o16_empties : Int32) (j115_i_o16_backFirst : Int32) (j115_i_o16_backMany : Int32) (j115_i_o16_drawn : Int32) (j115_i_o16_spilt : Int32) (j115_x0_o16_yard : Option Nat) (j115_a_o16_men : Nat → Int32) (j115_a_o16_done : Nat → Int32) (j115_a_o16_busy : Nat → Int32) (j115_a_o16_litres : Nat → Int32) (j115_a_o16_stands : Nat → Int32) (j115_a_o16_first : Nat → Int32) (j115_a_o16_heaps : Nat → Int32) (j115_a_order : Nat → Int32) (j115_a_bestOrder : Nat → Int32) : Option ((Int32 × Int32 × Int32 × Int32 × Int32 × Int32 × Int32 × Int32 × Int32 × Int32 × Int32 × (Option Nat) × (Nat → Int32) × (Nat → Int32) × (Nat → Int32) × (Nat → Int32) × (Nat → Int32) × (Nat → Int32) × (Nat → Int32) × (Nat → Int32) × (Nat → Int32)) ⊕ (Int32 × Int32 × Int32 × Int32 × Int32 × Int32 × Int32 × Int32 × Int32 × Int32 × (Option Nat) × (Nat → Int32) × (Nat → Int32) × (Nat → Int32) × (Nat → Int32) × (Nat → Int32) × (Nat → Int32) × (Nat → Int32) × (Nat → Int32) × (Nat → Int32))) :=
  lt (w2_3 + (1 : Int32)) fun v6 =>
  some (.inl (v6, j115_i_bestPeriod, j115_i_o16_many, j115_i_o16_water, j115_i_o16_thrown, j115_i_o16_tick, j115_i_o16_empties, j115_i_o16_backFirst, j115_i_o16_backMany, j115_i_o16_drawn, j115_i_o16_spilt, j115_x0_o16_yard, j115_a_o16_men, j115_a_o16_done, j115_a_o16_busy, j115_a_o16_litres, j115_a_o16_stands, j115_a_o16_first, j115_a_o16_heaps, j115_a_order, j115_a_bestOrder))

noncomputable def f1_orders_s2 (q_X1_orders : Int32 → Int32 → Nat → Int32 → Int32 → Int32 → Int32 → Int32 → Int32 → Int32 → Int32 → Int32 → Int32 → Int32 → Int32 → Int32 → Int32 → Int32 → Option Nat → (Nat → Int32) → (Nat → Int32) → (Nat → Int32) → (Nat → Int32) → (Nat → Int32) → (Nat → Int32) → (Nat → Int32) → (Nat → Int32) → (Nat → Int32) → (Nat → Int32) → (Nat → Option Nat) → (Nat → Int32) → Option (Int32 × Int32 × Int32 × Int32 × Int32 × Int32 × Int32 × Int32 × Int32 × Int32 × (Option Nat) × (Nat → Int32) × (Nat → Int32) × (Nat → Int32) × (Nat → Int32) × (Nat → Int32) × (Nat → Int32) × (Nat → Int32) × (Nat → Int32) × (Nat → Int32))) (p1 : Int32) (p2 : Int32) (i_askedMany : Int32) (i_y_way : Int32) (i_y_pails : Int32) (i_y_draw : Int32) (i_y_thrown : Int32) (a_asked : Nat → Int32) (q_y_men : Nat → Option Nat) (mi_hand : Nat → Int32) (y : Nat) (w2_3 : Int32) (w2_i_bestPeriod : Int32) (w2_i_o16_many : Int32) (w2_i_o16_water : Int32) (w2_i_o16_thrown : Int32) (w2_i_o16_tick : Int32) (w2_i_o16_empties : Int32) (w2_i_o16_backFirst : Int32) (w2_i_o16_backMany : Int32) (w2_i_o16_drawn : Int32) (w2_i_o16_spilt : Int32) (w2_x0_o16_yard : Option Nat) (w2_a_o16_men : Nat → Int32) (w2_a_o16_done : Nat → Int32) (w2_a_o16_busy : Nat → Int32) (w2_a_o16_litres : Nat → Int32) (w2_a_o16_stands : Nat → Int32) (w2_a_o16_first : Nat → Int32) (w2_a_o16_heaps : Nat → Int32) (w2_a_order : Nat → Int32) (w2_a_bestOrder : Nat → Int32) : Option ((Int32 × Int32 × Int32 × Int32 × Int32 × Int32 × Int32 × Int32 × Int32 × Int32 × Int32 × (Option Nat) × (Nat → Int32) × (Nat → Int32) × (Nat → Int32) × (Nat → Int32) × (Nat → Int32) × (Nat → Int32) × (Nat → Int32) × (Nat → Int32) × (Nat → Int32)) ⊕ (Int32 × Int32 × Int32 × Int32 × Int32 × Int32 × Int32 × Int32 × Int32 × Int32 × (Option Nat) × (Nat → Int32) × (Nat → Int32) × (Nat → Int32) × (Nat → Int32) × (Nat → Int32) × (Nat → Int32) × (Nat → Int32) × (Nat → Int32) × (Nat → Int32))) :=
  if i_askedMany ≤ w2_3 then
    some (.inr (w2_i_bestPeriod, w2_i_o16_many, w2_i_o16_water, w2_i_o16_thrown, w2_i_o16_tick, w2_i_o16_empties, w2_i_o16_backFirst, w2_i_o16_backMany, w2_i_o16_drawn, w2_i_o16_spilt, w2_x0_o16_yard, w2_a_o16_men, w2_a_o16_done, w2_a_o16_busy, w2_a_o16_litres, w2_a_o16_stands, w2_a_o16_first, w2_a_o16_heaps, w2_a_order, w2_a_bestOrder))
  else
    lt (p2 >>> (w2_3 &&& 31)) fun v4 =>
    lt (v4 &&& (1 : Int32)) fun v5 =>
    if v5 = (1 : Int32) then
      f1_orders_j115 w2_3 w2_i_bestPeriod w2_i_o16_many w2_i_o16_water w2_i_o16_thrown w2_i_o16_tick w2_i_o16_empties w2_i_o16_backFirst w2_i_o16_backMany w2_i_o16_drawn w2_i_o16_spilt w2_x0_o16_yard w2_a_o16_men w2_a_o16_done w2_a_o16_busy w2_a_o16_litres w2_a_o16_stands w2_a_o16_first w2_a_o16_heaps w2_a_order w2_a_bestOrder
    else
      gd (inb w2_3 12) <|
      lt (a_asked w2_3.toNatClampNeg) fun v9 =>
      gd (inb p1 7) <|
      lt (upd w2_a_order p1.toNatClampNeg v9) fun u11 =>
      lt (p1 + (1 : Int32)) fun v12 =>
      lt ((1 : Int32) <<< (w2_3 &&& 31)) fun v13 =>
      lt (p2 ||| v13) fun v14 =>
      (q_X1_orders v12 v14 y i_askedMany w2_i_bestPeriod i_y_way i_y_pails i_y_draw i_y_thrown w2_i_o16_many w2_i_o16_water w2_i_o16_thrown w2_i_o16_tick w2_i_o16_empties w2_i_o16_backFirst w2_i_o16_backMany w2_i_o16_drawn w2_i_o16_spilt w2_x0_o16_yard w2_a_o16_men w2_a_o16_done w2_a_o16_busy w2_a_o16_litres w2_a_o16_stands w2_a_o16_first w2_a_o16_heaps a_asked u11 w2_a_bestOrder q_y_men mi_hand).bind fun rr15 =>
      f1_orders_j115 w2_3 rr15.1 rr15.2.1 rr15.2.2.1 rr15.2.2.2.1 rr15.2.2.2.2.1 rr15.2.2.2.2.2.1 rr15.2.2.2.2.2.2.1 rr15.2.2.2.2.2.2.2.1 rr15.2.2.2.2.2.2.2.2.1 rr15.2.2.2.2.2.2.2.2.2.1 rr15.2.2.2.2.2.2.2.2.2.2.1 rr15.2.2.2.2.2.2.2.2.2.2.2.1 rr15.2.2.2.2.2.2.2.2.2.2.2.2.1 rr15.2.2.2.2.2.2.2.2.2.2.2.2.2.1 rr15.2.2.2.2.2.2.2.2.2.2.2.2.2.2.1 rr15.2.2.2.2.2.2.2.2.2.2.2.2.2.2.2.1 rr15.2.2.2.2.2.2.2.2.2.2.2.2.2.2.2.2.1 rr15.2.2.2.2.2.2.2.2.2.2.2.2.2.2.2.2.2.1 rr15.2.2.2.2.2.2.2.2.2.2.2.2.2.2.2.2.2.2.1 rr15.2.2.2.2.2.2.2.2.2.2.2.2.2.2.2.2.2.2.2

noncomputable def fb1_orders (q_X1_orders : Int32 → Int32 → Nat → Int32 → Int32 → Int32 → Int32 → Int32 → Int32 → Int32 → Int32 → Int32 → Int32 → Int32 → Int32 → Int32 → Int32 → Int32 → Option Nat → (Nat → Int32) → (Nat → Int32) → (Nat → Int32) → (Nat → Int32) → (Nat → Int32) → (Nat → Int32) → (Nat → Int32) → (Nat → Int32) → (Nat → Int32) → (Nat → Int32) → (Nat → Option Nat) → (Nat → Int32) → Option (Int32 × Int32 × Int32 × Int32 × Int32 × Int32 × Int32 × Int32 × Int32 × Int32 × (Option Nat) × (Nat → Int32) × (Nat → Int32) × (Nat → Int32) × (Nat → Int32) × (Nat → Int32) × (Nat → Int32) × (Nat → Int32) × (Nat → Int32) × (Nat → Int32))) (p1 : Int32) (p2 : Int32) (y : Nat) (i_askedMany : Int32) (i_bestPeriod : Int32) (i_y_way : Int32) (i_y_pails : Int32) (i_y_draw : Int32) (i_y_thrown : Int32) (i_o16_many : Int32) (i_o16_water : Int32) (i_o16_thrown : Int32) (i_o16_tick : Int32) (i_o16_empties : Int32) (i_o16_backFirst : Int32) (i_o16_backMany : Int32) (i_o16_drawn : Int32) (i_o16_spilt : Int32) (x0_o16_yard : Option Nat) (a_o16_men : Nat → Int32) (a_o16_done : Nat → Int32) (a_o16_busy : Nat → Int32) (a_o16_litres : Nat → Int32) (a_o16_stands : Nat → Int32) (a_o16_first : Nat → Int32) (a_o16_heaps : Nat → Int32) (a_asked : Nat → Int32) (a_order : Nat → Int32) (a_bestOrder : Nat → Int32) (q_y_men : Nat → Option Nat) (mi_hand : Nat → Int32) : Option (Int32 × Int32 × Int32 × Int32 × Int32 × Int32 × Int32 × Int32 × Int32 × Int32 × (Option Nat) × (Nat → Int32) × (Nat → Int32) × (Nat → Int32) × (Nat → Int32) × (Nat → Int32) × (Nat → Int32) × (Nat → Int32) × (Nat → Int32) × (Nat → Int32)) :=
  if p1 = i_askedMany then
    (f10_begin p1 (0 : Int32) 7 i_y_pails i_o16_many i_o16_water i_o16_thrown i_o16_tick i_o16_empties i_o16_backFirst i_o16_backMany i_o16_drawn i_o16_spilt a_o16_men a_o16_done a_o16_busy a_o16_litres a_o16_stands a_o16_first a_o16_heaps a_order).bind fun rr16 =>
    (f10_period i_y_way i_y_draw i_y_thrown rr16.1 rr16.2.2.2.2.2.2.2.2.2.1 q_y_men mi_hand).bind fun rr17 =>
    if rr17 < i_bestPeriod then
      (f10_period i_y_way i_y_draw i_y_thrown rr16.1 rr16.2.2.2.2.2.2.2.2.2.1 q_y_men mi_hand).bind fun rr19 =>
      gd (cp_ok (0 : Int32) (0 : Int32) p1 7 7) <|
      lt (va_cpy a_order a_bestOrder (0 : Int32).toNatClampNeg (0 : Int32).toNatClampNeg p1.toNatClampNeg) fun u21 =>
      some (rr19, rr16.1, rr16.2.1, rr16.2.2.1, rr16.2.2.2.1, rr16.2.2.2.2.1, rr16.2.2.2.2.2.1, rr16.2.2.2.2.2.2.1, rr16.2.2.2.2.2.2.2.1, rr16.2.2.2.2.2.2.2.2.1, (some y), rr16.2.2.2.2.2.2.2.2.2.1, rr16.2.2.2.2.2.2.2.2.2.2.1, rr16.2.2.2.2.2.2.2.2.2.2.2.1, rr16.2.2.2.2.2.2.2.2.2.2.2.2.1, rr16.2.2.2.2.2.2.2.2.2.2.2.2.2.1, rr16.2.2.2.2.2.2.2.2.2.2.2.2.2.2.1, rr16.2.2.2.2.2.2.2.2.2.2.2.2.2.2.2, a_order, u21)
    else
      some (i_bestPeriod, rr16.1, rr16.2.1, rr16.2.2.1, rr16.2.2.2.1, rr16.2.2.2.2.1, rr16.2.2.2.2.2.1, rr16.2.2.2.2.2.2.1, rr16.2.2.2.2.2.2.2.1, rr16.2.2.2.2.2.2.2.2.1, (some y), rr16.2.2.2.2.2.2.2.2.2.1, rr16.2.2.2.2.2.2.2.2.2.2.1, rr16.2.2.2.2.2.2.2.2.2.2.2.1, rr16.2.2.2.2.2.2.2.2.2.2.2.2.1, rr16.2.2.2.2.2.2.2.2.2.2.2.2.2.1, rr16.2.2.2.2.2.2.2.2.2.2.2.2.2.2.1, rr16.2.2.2.2.2.2.2.2.2.2.2.2.2.2.2, a_order, a_bestOrder)
  else
    (whl (fun (s2 : Int32 × Int32 × Int32 × Int32 × Int32 × Int32 × Int32 × Int32 × Int32 × Int32 × Int32 × (Option Nat) × (Nat → Int32) × (Nat → Int32) × (Nat → Int32) × (Nat → Int32) × (Nat → Int32) × (Nat → Int32) × (Nat → Int32) × (Nat → Int32) × (Nat → Int32)) => f1_orders_s2 q_X1_orders p1 p2 i_askedMany i_y_way i_y_pails i_y_draw i_y_thrown a_asked q_y_men mi_hand y s2.1 s2.2.1 s2.2.2.1 s2.2.2.2.1 s2.2.2.2.2.1 s2.2.2.2.2.2.1 s2.2.2.2.2.2.2.1 s2.2.2.2.2.2.2.2.1 s2.2.2.2.2.2.2.2.2.1 s2.2.2.2.2.2.2.2.2.2.1 s2.2.2.2.2.2.2.2.2.2.2.1 s2.2.2.2.2.2.2.2.2.2.2.2.1 s2.2.2.2.2.2.2.2.2.2.2.2.2.1 s2.2.2.2.2.2.2.2.2.2.2.2.2.2.1 s2.2.2.2.2.2.2.2.2.2.2.2.2.2.2.1 s2.2.2.2.2.2.2.2.2.2.2.2.2.2.2.2.1 s2.2.2.2.2.2.2.2.2.2.2.2.2.2.2.2.2.1 s2.2.2.2.2.2.2.2.2.2.2.2.2.2.2.2.2.2.1 s2.2.2.2.2.2.2.2.2.2.2.2.2.2.2.2.2.2.2.1 s2.2.2.2.2.2.2.2.2.2.2.2.2.2.2.2.2.2.2.2.1 s2.2.2.2.2.2.2.2.2.2.2.2.2.2.2.2.2.2.2.2.2) FU ((0 : Int32), i_bestPeriod, i_o16_many, i_o16_water, i_o16_thrown, i_o16_tick, i_o16_empties, i_o16_backFirst, i_o16_backMany, i_o16_drawn, i_o16_spilt, x0_o16_yard, a_o16_men, a_o16_done, a_o16_busy, a_o16_litres, a_o16_stands, a_o16_first, a_o16_heaps, a_order, a_bestOrder)).bind fun rl2 =>
    f1_orders_e2_0 rl2
noncomputable def fG_X1_orders : Nat → (Int32 → Int32 → Nat → Int32 → Int32 → Int32 → Int32 → Int32 → Int32 → Int32 → Int32 → Int32 → Int32 → Int32 → Int32 → Int32 → Int32 → Int32 → Option Nat → (Nat → Int32) → (Nat → Int32) → (Nat → Int32) → (Nat → Int32) → (Nat → Int32) → (Nat → Int32) → (Nat → Int32) → (Nat → Int32) → (Nat → Int32) → (Nat → Int32) → (Nat → Option Nat) → (Nat → Int32) → Option (Int32 × Int32 × Int32 × Int32 × Int32 × Int32 × Int32 × Int32 × Int32 × Int32 × (Option Nat) × (Nat → Int32) × (Nat → Int32) × (Nat → Int32) × (Nat → Int32) × (Nat → Int32) × (Nat → Int32) × (Nat → Int32) × (Nat → Int32) × (Nat → Int32)))
  | 0 => fun _ _ _ _ _ _ _ _ _ _ _ _ _ _ _ _ _ _ _ _ _ _ _ _ _ _ _ _ _ _ _ => none
  | d + 1 => fb1_orders (fG_X1_orders d)
noncomputable def f1_orders (d : Nat) : Int32 → Int32 → Nat → Int32 → Int32 → Int32 → Int32 → Int32 → Int32 → Int32 → Int32 → Int32 → Int32 → Int32 → Int32 → Int32 → Int32 → Int32 → Option Nat → (Nat → Int32) → (Nat → Int32) → (Nat → Int32) → (Nat → Int32) → (Nat → Int32) → (Nat → Int32) → (Nat → Int32) → (Nat → Int32) → (Nat → Int32) → (Nat → Int32) → (Nat → Option Nat) → (Nat → Int32) → Option (Int32 × Int32 × Int32 × Int32 × Int32 × Int32 × Int32 × Int32 × Int32 × Int32 × (Option Nat) × (Nat → Int32) × (Nat → Int32) × (Nat → Int32) × (Nat → Int32) × (Nat → Int32) × (Nat → Int32) × (Nat → Int32) × (Nat → Int32) × (Nat → Int32)) := (fG_X1_orders d)
set_option maxHeartbeats 4000000 in
theorem w1_orders (l : Launch) (d : Nat) (q_X1_orders : Int32 → Int32 → Nat → Int32 → Int32 → Int32 → Int32 → Int32 → Int32 → Int32 → Int32 → Int32 → Int32 → Int32 → Int32 → Int32 → Int32 → Int32 → Option Nat → (Nat → Int32) → (Nat → Int32) → (Nat → Int32) → (Nat → Int32) → (Nat → Int32) → (Nat → Int32) → (Nat → Int32) → (Nat → Int32) → (Nat → Int32) → (Nat → Int32) → (Nat → Option Nat) → (Nat → Int32) → Option (Int32 × Int32 × Int32 × Int32 × Int32 × Int32 × Int32 × Int32 × Int32 × Int32 × (Option Nat) × (Nat → Int32) × (Nat → Int32) × (Nat → Int32) × (Nat → Int32) × (Nat → Int32) × (Nat → Int32) × (Nat → Int32) × (Nat → Int32) × (Nat → Int32))) (ih_X1_orders : ∀ (G : gG) (K : gK) (I : gI) (J : gJ) (X : gX) (A : gI) (B : gJ) (Q : gX) (o : Nat) (y : Nat) (sh_o : Sh K X o 0 rows0) (sh_y : Sh K X y 3 rows3) (sh_o16 : Sh K X (o + 16) 7 rows7) (sh_o7 : K (o + 7) = some (.inl 2)) (x_o7_yard : X 200 (o + 7) = some y) (x_o_row : X 13 o = some (o + 16)) (x_o_now : X 9 o = some (o + 7)) (p1 : Int32) (p2 : Int32) (i_askedMany : Int32) (i_bestPeriod : Int32) (i_y_way : Int32) (i_y_pails : Int32) (i_y_draw : Int32) (i_y_thrown : Int32) (i_o16_many : Int32) (i_o16_water : Int32) (i_o16_thrown : Int32) (i_o16_tick : Int32) (i_o16_empties : Int32) (i_o16_backFirst : Int32) (i_o16_backMany : Int32) (i_o16_drawn : Int32) (i_o16_spilt : Int32) (x0_o16_yard : Option Nat) (a_o16_men : Nat → Int32) (a_o16_done : Nat → Int32) (a_o16_busy : Nat → Int32) (a_o16_litres : Nat → Int32) (a_o16_stands : Nat → Int32) (a_o16_first : Nat → Int32) (a_o16_heaps : Nat → Int32) (a_asked : Nat → Int32) (a_order : Nat → Int32) (a_bestOrder : Nat → Int32) (q_y_men : Nat → Option Nat) (mi_hand : Nat → Int32) (e_i_askedMany : I 18 o = i_askedMany) (e_i_bestPeriod : I 26 o = i_bestPeriod) (e_i_y_way : I 306 y = i_y_way) (e_i_y_pails : I 307 y = i_y_pails) (e_i_y_draw : I 309 y = i_y_draw) (e_i_y_thrown : I 313 y = i_y_thrown) (e_i_o16_many : I 702 (o + 16) = i_o16_many) (e_i_o16_water : I 703 (o + 16) = i_o16_water) (e_i_o16_thrown : I 704 (o + 16) = i_o16_thrown) (e_i_o16_tick : I 705 (o + 16) = i_o16_tick) (e_i_o16_empties : I 714 (o + 16) = i_o16_empties) (e_i_o16_backFirst : I 715 (o + 16) = i_o16_backFirst) (e_i_o16_backMany : I 716 (o + 16) = i_o16_backMany) (e_i_o16_drawn : I 717 (o + 16) = i_o16_drawn) (e_i_o16_spilt : I 718 (o + 16) = i_o16_spilt) (e_x0_o16_yard : X 701 (o + 16) = x0_o16_yard) (e_a_o16_men : A (o + 17) = a_o16_men) (e_a_o16_done : A (o + 18) = a_o16_done) (e_a_o16_busy : A (o + 19) = a_o16_busy) (e_a_o16_litres : A (o + 20) = a_o16_litres) (e_a_o16_stands : A (o + 21) = a_o16_stands) (e_a_o16_first : A (o + 22) = a_o16_first) (e_a_o16_heaps : A (o + 23) = a_o16_heaps) (e_a_asked : A (o + 70) = a_asked) (e_a_order : A (o + 73) = a_order) (e_a_bestOrder : A (o + 74) = a_bestOrder) (e_q_y_men : Q (y + 1) = q_y_men) (e_mi_hand : I 1201 = mi_hand) (hman : ∀ (j m : Nat), q_y_men j = some m → K m = some (.inl 12)) (out : Int32 × Int32 × Int32 × Int32 × Int32 × Int32 × Int32 × Int32 × Int32 × Int32 × (Option Nat) × (Nat → Int32) × (Nat → Int32) × (Nat → Int32) × (Nat → Int32) × (Nat → Int32) × (Nat → Int32) × (Nat → Int32) × (Nat → Int32) × (Nat → Int32)) (hf : q_X1_orders p1 p2 y i_askedMany i_bestPeriod i_y_way i_y_pails i_y_draw i_y_thrown i_o16_many i_o16_water i_o16_thrown i_o16_tick i_o16_empties i_o16_backFirst i_o16_backMany i_o16_drawn i_o16_spilt x0_o16_yard a_o16_men a_o16_done a_o16_busy a_o16_litres a_o16_stands a_o16_first a_o16_heaps a_asked a_order a_bestOrder q_y_men mi_hand = some out) , GMet l yX1_orders cX1_orders 4 none (d + 3) (d * 23 + 75) G [.ref o, .int p1, .int p2] K I J X A B Q none K (ov I [(26, o, out.1), (702, (o + 16), out.2.1), (703, (o + 16), out.2.2.1), (704, (o + 16), out.2.2.2.1), (705, (o + 16), out.2.2.2.2.1), (714, (o + 16), out.2.2.2.2.2.1), (715, (o + 16), out.2.2.2.2.2.2.1), (716, (o + 16), out.2.2.2.2.2.2.2.1), (717, (o + 16), out.2.2.2.2.2.2.2.2.1), (718, (o + 16), out.2.2.2.2.2.2.2.2.2.1)]) J (ov X [(701, (o + 16), out.2.2.2.2.2.2.2.2.2.2.1)]) (ova A [((o + 17), out.2.2.2.2.2.2.2.2.2.2.2.1), ((o + 18), out.2.2.2.2.2.2.2.2.2.2.2.2.1), ((o + 19), out.2.2.2.2.2.2.2.2.2.2.2.2.2.1), ((o + 20), out.2.2.2.2.2.2.2.2.2.2.2.2.2.2.1), ((o + 21), out.2.2.2.2.2.2.2.2.2.2.2.2.2.2.2.1), ((o + 22), out.2.2.2.2.2.2.2.2.2.2.2.2.2.2.2.2.1), ((o + 23), out.2.2.2.2.2.2.2.2.2.2.2.2.2.2.2.2.2.1), ((o + 70), a_asked), ((o + 73), out.2.2.2.2.2.2.2.2.2.2.2.2.2.2.2.2.2.2.1), ((o + 74), out.2.2.2.2.2.2.2.2.2.2.2.2.2.2.2.2.2.2.2)]) B Q 0 0) : ∀ (G : gG) (K : gK) (I : gI) (J : gJ) (X : gX) (A : gI) (B : gJ) (Q : gX) (o : Nat) (y : Nat) (sh_o : Sh K X o 0 rows0) (sh_y : Sh K X y 3 rows3) (sh_o16 : Sh K X (o + 16) 7 rows7) (sh_o7 : K (o + 7) = some (.inl 2)) (x_o7_yard : X 200 (o + 7) = some y) (x_o_row : X 13 o = some (o + 16)) (x_o_now : X 9 o = some (o + 7)) (p1 : Int32) (p2 : Int32) (i_askedMany : Int32) (i_bestPeriod : Int32) (i_y_way : Int32) (i_y_pails : Int32) (i_y_draw : Int32) (i_y_thrown : Int32) (i_o16_many : Int32) (i_o16_water : Int32) (i_o16_thrown : Int32) (i_o16_tick : Int32) (i_o16_empties : Int32) (i_o16_backFirst : Int32) (i_o16_backMany : Int32) (i_o16_drawn : Int32) (i_o16_spilt : Int32) (x0_o16_yard : Option Nat) (a_o16_men : Nat → Int32) (a_o16_done : Nat → Int32) (a_o16_busy : Nat → Int32) (a_o16_litres : Nat → Int32) (a_o16_stands : Nat → Int32) (a_o16_first : Nat → Int32) (a_o16_heaps : Nat → Int32) (a_asked : Nat → Int32) (a_order : Nat → Int32) (a_bestOrder : Nat → Int32) (q_y_men : Nat → Option Nat) (mi_hand : Nat → Int32) (e_i_askedMany : I 18 o = i_askedMany) (e_i_bestPeriod : I 26 o = i_bestPeriod) (e_i_y_way : I 306 y = i_y_way) (e_i_y_pails : I 307 y = i_y_pails) (e_i_y_draw : I 309 y = i_y_draw) (e_i_y_thrown : I 313 y = i_y_thrown) (e_i_o16_many : I 702 (o + 16) = i_o16_many) (e_i_o16_water : I 703 (o + 16) = i_o16_water) (e_i_o16_thrown : I 704 (o + 16) = i_o16_thrown) (e_i_o16_tick : I 705 (o + 16) = i_o16_tick) (e_i_o16_empties : I 714 (o + 16) = i_o16_empties) (e_i_o16_backFirst : I 715 (o + 16) = i_o16_backFirst) (e_i_o16_backMany : I 716 (o + 16) = i_o16_backMany) (e_i_o16_drawn : I 717 (o + 16) = i_o16_drawn) (e_i_o16_spilt : I 718 (o + 16) = i_o16_spilt) (e_x0_o16_yard : X 701 (o + 16) = x0_o16_yard) (e_a_o16_men : A (o + 17) = a_o16_men) (e_a_o16_done : A (o + 18) = a_o16_done) (e_a_o16_busy : A (o + 19) = a_o16_busy) (e_a_o16_litres : A (o + 20) = a_o16_litres) (e_a_o16_stands : A (o + 21) = a_o16_stands) (e_a_o16_first : A (o + 22) = a_o16_first) (e_a_o16_heaps : A (o + 23) = a_o16_heaps) (e_a_asked : A (o + 70) = a_asked) (e_a_order : A (o + 73) = a_order) (e_a_bestOrder : A (o + 74) = a_bestOrder) (e_q_y_men : Q (y + 1) = q_y_men) (e_mi_hand : I 1201 = mi_hand) (hman : ∀ (j m : Nat), q_y_men j = some m → K m = some (.inl 12)) (out : Int32 × Int32 × Int32 × Int32 × Int32 × Int32 × Int32 × Int32 × Int32 × Int32 × (Option Nat) × (Nat → Int32) × (Nat → Int32) × (Nat → Int32) × (Nat → Int32) × (Nat → Int32) × (Nat → Int32) × (Nat → Int32) × (Nat → Int32) × (Nat → Int32)) (hf : fb1_orders q_X1_orders p1 p2 y i_askedMany i_bestPeriod i_y_way i_y_pails i_y_draw i_y_thrown i_o16_many i_o16_water i_o16_thrown i_o16_tick i_o16_empties i_o16_backFirst i_o16_backMany i_o16_drawn i_o16_spilt x0_o16_yard a_o16_men a_o16_done a_o16_busy a_o16_litres a_o16_stands a_o16_first a_o16_heaps a_asked a_order a_bestOrder q_y_men mi_hand = some out), GMet l yX1_orders cX1_orders 4 none ((d + 1) + 3) ((d + 1) * 23 + 75) G [.ref o, .int p1, .int p2] K I J X A B Q none K (ov I [(26, o, out.1), (702, (o + 16), out.2.1), (703, (o + 16), out.2.2.1), (704, (o + 16), out.2.2.2.1), (705, (o + 16), out.2.2.2.2.1), (714, (o + 16), out.2.2.2.2.2.1), (715, (o + 16), out.2.2.2.2.2.2.1), (716, (o + 16), out.2.2.2.2.2.2.2.1), (717, (o + 16), out.2.2.2.2.2.2.2.2.1), (718, (o + 16), out.2.2.2.2.2.2.2.2.2.1)]) J (ov X [(701, (o + 16), out.2.2.2.2.2.2.2.2.2.2.1)]) (ova A [((o + 17), out.2.2.2.2.2.2.2.2.2.2.2.1), ((o + 18), out.2.2.2.2.2.2.2.2.2.2.2.2.1), ((o + 19), out.2.2.2.2.2.2.2.2.2.2.2.2.2.1), ((o + 20), out.2.2.2.2.2.2.2.2.2.2.2.2.2.2.1), ((o + 21), out.2.2.2.2.2.2.2.2.2.2.2.2.2.2.2.1), ((o + 22), out.2.2.2.2.2.2.2.2.2.2.2.2.2.2.2.2.1), ((o + 23), out.2.2.2.2.2.2.2.2.2.2.2.2.2.2.2.2.2.1), ((o + 70), a_asked), ((o + 73), out.2.2.2.2.2.2.2.2.2.2.2.2.2.2.2.2.2.2.1), ((o + 74), out.2.2.2.2.2.2.2.2.2.2.2.2.2.2.2.2.2.2.2)]) B Q 0 0 := by
  intro G K I J X A B Q o y sh_o sh_y sh_o16 sh_o7 x_o7_yard x_o_row x_o_now p1 p2 i_askedMany i_bestPeriod i_y_way i_y_pails i_y_draw i_y_thrown i_o16_many i_o16_water i_o16_thrown i_o16_tick i_o16_empties i_o16_backFirst i_o16_backMany i_o16_drawn i_o16_spilt x0_o16_yard a_o16_men a_o16_done a_o16_busy a_o16_litres a_o16_stands a_o16_first a_o16_heaps a_asked a_order a_bestOrder q_y_men mi_hand e_i_askedMany e_i_bestPeriod e_i_y_way e_i_y_pails e_i_y_draw e_i_y_thrown e_i_o16_many e_i_o16_water e_i_o16_thrown e_i_o16_tick e_i_o16_empties e_i_o16_backFirst e_i_o16_backMany e_i_o16_drawn e_i_o16_spilt e_x0_o16_yard e_a_o16_men e_a_o16_done e_a_o16_busy e_a_o16_litres e_a_o16_stands e_a_o16_first e_a_o16_heaps e_a_asked e_a_order e_a_bestOrder e_q_y_men e_mi_hand hman out hf
  refine GMet.of (y := yX1_orders) rfl (Nat.le_of_ble_eq_true rfl) rfl ?_
  intro p e s m below meth c ls hx hb hr hml hlocks hts hown hname hG hR hl
  have hown : s.vm.findClass RX1 = some m.cls := hown
  have k_a_o16_men : K (o + 17) = some (.inr (0, 12)) := (sh_o16.2 0 _ rfl).1
  have k_a_o16_done : K (o + 18) = some (.inr (0, 12)) := (sh_o16.2 1 _ rfl).1
  have k_a_o16_busy : K (o + 19) = some (.inr (0, 12)) := (sh_o16.2 2 _ rfl).1
  have k_a_o16_litres : K (o + 20) = some (.inr (0, 12)) := (sh_o16.2 3 _ rfl).1
  have k_a_o16_stands : K (o + 21) = some (.inr (0, 12)) := (sh_o16.2 4 _ rfl).1
  have k_a_o16_first : K (o + 22) = some (.inr (0, 12)) := (sh_o16.2 5 _ rfl).1
  have k_a_o16_heaps : K (o + 23) = some (.inr (0, 12)) := (sh_o16.2 6 _ rfl).1
  have k_a_asked : K (o + 70) = some (.inr (0, 12)) := (sh_o.2 5 _ rfl).1
  have k_a_order : K (o + 73) = some (.inr (0, 7)) := (sh_o.2 8 _ rfl).1
  have k_a_bestOrder : K (o + 74) = some (.inr (0, 7)) := (sh_o.2 9 _ rfl).1
  have k_q_y_men : K (y + 1) = some (.inr (4, 12)) := (sh_y.2 0 _ rfl).1
  have hN_A : nda [(o + 17), (o + 18), (o + 19), (o + 20), (o + 21), (o + 22), (o + 23), (o + 70), (o + 73), (o + 74)] := nd_off o [17, 18, 19, 20, 21, 22, 23, 70, 73, 74] rfl
  have hR : RS G K (ov I [(26, o, i_bestPeriod), (702, (o + 16), i_o16_many), (703, (o + 16), i_o16_water), (704, (o + 16), i_o16_thrown), (705, (o + 16), i_o16_tick), (714, (o + 16), i_o16_empties), (715, (o + 16), i_o16_backFirst), (716, (o + 16), i_o16_backMany), (717, (o + 16), i_o16_drawn), (718, (o + 16), i_o16_spilt)]) J (ov X [(701, (o + 16), x0_o16_yard)]) (ova A [((o + 17), a_o16_men), ((o + 18), a_o16_done), ((o + 19), a_o16_busy), ((o + 20), a_o16_litres), ((o + 21), a_o16_stands), ((o + 22), a_o16_first), ((o + 23), a_o16_heaps), ((o + 70), a_asked), ((o + 73), a_order), ((o + 74), a_bestOrder)]) B Q s.heap := hR.to (Eq.symm (ov_sc e_i_bestPeriod (ov_sc e_i_o16_many (ov_sc e_i_o16_water (ov_sc e_i_o16_thrown (ov_sc e_i_o16_tick (ov_sc e_i_o16_empties (ov_sc e_i_o16_backFirst (ov_sc e_i_o16_backMany (ov_sc e_i_o16_drawn (ov_sc e_i_o16_spilt rfl))))))))))) rfl (Eq.symm (ov_sc e_x0_o16_yard rfl)) (Eq.symm (ova_sc e_a_o16_men (ova_sc e_a_o16_done (ova_sc e_a_o16_busy (ova_sc e_a_o16_litres (ova_sc e_a_o16_stands (ova_sc e_a_o16_first (ova_sc e_a_o16_heaps (ova_sc e_a_asked (ova_sc e_a_order (ova_sc e_a_bestOrder rfl))))))))))) rfl rfl
  have hS : va_S (gA G) s.heap s.heap [] := va_S.rf
  have hend : ∀ (pc : Nat) (H : Heap) (locs : List Loc) (ls : Array Slot), decode cX1_orders pc = .ok (.return_, 1) → RS G K (ov I [(26, o, out.1), (702, (o + 16), out.2.1), (703, (o + 16), out.2.2.1), (704, (o + 16), out.2.2.2.1), (705, (o + 16), out.2.2.2.2.1), (714, (o + 16), out.2.2.2.2.2.1), (715, (o + 16), out.2.2.2.2.2.2.1), (716, (o + 16), out.2.2.2.2.2.2.2.1), (717, (o + 16), out.2.2.2.2.2.2.2.2.1), (718, (o + 16), out.2.2.2.2.2.2.2.2.2.1)]) J (ov X [(701, (o + 16), out.2.2.2.2.2.2.2.2.2.2.1)]) (ova A [((o + 17), out.2.2.2.2.2.2.2.2.2.2.2.1), ((o + 18), out.2.2.2.2.2.2.2.2.2.2.2.2.1), ((o + 19), out.2.2.2.2.2.2.2.2.2.2.2.2.2.1), ((o + 20), out.2.2.2.2.2.2.2.2.2.2.2.2.2.2.1), ((o + 21), out.2.2.2.2.2.2.2.2.2.2.2.2.2.2.2.1), ((o + 22), out.2.2.2.2.2.2.2.2.2.2.2.2.2.2.2.2.1), ((o + 23), out.2.2.2.2.2.2.2.2.2.2.2.2.2.2.2.2.2.1), ((o + 70), a_asked), ((o + 73), out.2.2.2.2.2.2.2.2.2.2.2.2.2.2.2.2.2.2.1), ((o + 74), out.2.2.2.2.2.2.2.2.2.2.2.2.2.2.2.2.2.2.2)]) B Q H → va_S (gA G) s.heap H locs → W p l e ({ frames := (d + 1) + 3, cells := 0, slots := 0, locals := (d + 1) * 23 + 75 } : Room) s m ([.ref o, .int p1, .int p2] : List Value).toArray below meth c H locs 0 0 (MQ below (gQ G none K (ov I [(26, o, out.1), (702, (o + 16), out.2.1), (703, (o + 16), out.2.2.1), (704, (o + 16), out.2.2.2.1), (705, (o + 16), out.2.2.2.2.1), (714, (o + 16), out.2.2.2.2.2.1), (715, (o + 16), out.2.2.2.2.2.2.1), (716, (o + 16), out.2.2.2.2.2.2.2.1), (717, (o + 16), out.2.2.2.2.2.2.2.2.1), (718, (o + 16), out.2.2.2.2.2.2.2.2.2.1)]) J (ov X [(701, (o + 16), out.2.2.2.2.2.2.2.2.2.2.1)]) (ova A [((o + 17), out.2.2.2.2.2.2.2.2.2.2.2.1), ((o + 18), out.2.2.2.2.2.2.2.2.2.2.2.2.1), ((o + 19), out.2.2.2.2.2.2.2.2.2.2.2.2.2.1), ((o + 20), out.2.2.2.2.2.2.2.2.2.2.2.2.2.2.1), ((o + 21), out.2.2.2.2.2.2.2.2.2.2.2.2.2.2.2.1), ((o + 22), out.2.2.2.2.2.2.2.2.2.2.2.2.2.2.2.2.1), ((o + 23), out.2.2.2.2.2.2.2.2.2.2.2.2.2.2.2.2.2.1), ((o + 70), a_asked), ((o + 73), out.2.2.2.2.2.2.2.2.2.2.2.2.2.2.2.2.2.2.1), ((o + 74), out.2.2.2.2.2.2.2.2.2.2.2.2.2.2.2.2.2.2.2)]) B Q) ([.ref o, .int p1, .int p2] : List Value).toArray s 0 0 (gA G)) (F0 m pc ls []) := fun pc H locs ls hd hR hS => g_vret hx hb hr hlocks hG hR hS rfl hd
  generalize MQ below (gQ G none K (ov I [(26, o, out.1), (702, (o + 16), out.2.1), (703, (o + 16), out.2.2.1), (704, (o + 16), out.2.2.2.1), (705, (o + 16), out.2.2.2.2.1), (714, (o + 16), out.2.2.2.2.2.1), (715, (o + 16), out.2.2.2.2.2.2.1), (716, (o + 16), out.2.2.2.2.2.2.2.1), (717, (o + 16), out.2.2.2.2.2.2.2.2.1), (718, (o + 16), out.2.2.2.2.2.2.2.2.2.1)]) J (ov X [(701, (o + 16), out.2.2.2.2.2.2.2.2.2.2.1)]) (ova A [((o + 17), out.2.2.2.2.2.2.2.2.2.2.2.1), ((o + 18), out.2.2.2.2.2.2.2.2.2.2.2.2.1), ((o + 19), out.2.2.2.2.2.2.2.2.2.2.2.2.2.1), ((o + 20), out.2.2.2.2.2.2.2.2.2.2.2.2.2.2.1), ((o + 21), out.2.2.2.2.2.2.2.2.2.2.2.2.2.2.2.1), ((o + 22), out.2.2.2.2.2.2.2.2.2.2.2.2.2.2.2.2.1), ((o + 23), out.2.2.2.2.2.2.2.2.2.2.2.2.2.2.2.2.2.1), ((o + 70), a_asked), ((o + 73), out.2.2.2.2.2.2.2.2.2.2.2.2.2.2.2.2.2.2.1), ((o + 74), out.2.2.2.2.2.2.2.2.2.2.2.2.2.2.2.2.2.2.2)]) B Q) ([.ref o, .int p1, .int p2] : List Value).toArray s 0 0 (gA G) = Z at hend ⊢
  generalize ([.ref o, .int p1, .int p2] : List Value).toArray = args at hts hend ⊢
  unfold fb1_orders at hf
  refine lv_iload_n hx hb dX1_orders_0 rfl (lv_at hl 1 rfl) ?_
  refine lv_aload_n hx hb dX1_orders_1 rfl (lv_at hl 0 rfl) ?_
  refine n_geti (v := i_askedMany) hx hb hts hown hG hR gFi_X1_308_0 sh_o.1 ((congrFun (ov_no rfl) _).trans e_i_askedMany) dX1_orders_2 ?_
  refine lv_icmp_ne (tgt := 69) hx hb dX1_orders_5 (by decide) (fun c1 => ?_) (fun c1 => ?_)
  · have hf := ite_f c1 hf
    refine lv_iconst (v := 0) hx hb dX1_orders_69 li_0 ?_
    refine lv_istore_n (lv' := [(3, .int (0 : Int32)), (0, .ref o), (1, .int p1), (2, .int p2)]) hx hb dX1_orders_70 rfl hl (by decide) rfl (fun ls hl => ?_)
    obtain ⟨rl2, hw2, hfo2⟩ := bind_s hf
    have hx2_0 : ∀ (x2_0 : Int32 × Int32 × Int32 × Int32 × Int32 × Int32 × Int32 × Int32 × Int32 × Int32 × (Option Nat) × (Nat → Int32) × (Nat → Int32) × (Nat → Int32) × (Nat → Int32) × (Nat → Int32) × (Nat → Int32) × (Nat → Int32) × (Nat → Int32) × (Nat → Int32)), f1_orders_e2_0 x2_0 = some out → ∀ (pc : Nat) (H : Heap) (locs : List Loc) (ls : Array Slot), decode cX1_orders pc = .ok (.return_, 1) → RS G K (ov I [(26, o, x2_0.1), (702, (o + 16), x2_0.2.1), (703, (o + 16), x2_0.2.2.1), (704, (o + 16), x2_0.2.2.2.1), (705, (o + 16), x2_0.2.2.2.2.1), (714, (o + 16), x2_0.2.2.2.2.2.1), (715, (o + 16), x2_0.2.2.2.2.2.2.1), (716, (o + 16), x2_0.2.2.2.2.2.2.2.1), (717, (o + 16), x2_0.2.2.2.2.2.2.2.2.1), (718, (o + 16), x2_0.2.2.2.2.2.2.2.2.2.1)]) J (ov X [(701, (o + 16), x2_0.2.2.2.2.2.2.2.2.2.2.1)]) (ova A [((o + 17), x2_0.2.2.2.2.2.2.2.2.2.2.2.1), ((o + 18), x2_0.2.2.2.2.2.2.2.2.2.2.2.2.1), ((o + 19), x2_0.2.2.2.2.2.2.2.2.2.2.2.2.2.1), ((o + 20), x2_0.2.2.2.2.2.2.2.2.2.2.2.2.2.2.1), ((o + 21), x2_0.2.2.2.2.2.2.2.2.2.2.2.2.2.2.2.1), ((o + 22), x2_0.2.2.2.2.2.2.2.2.2.2.2.2.2.2.2.2.1), ((o + 23), x2_0.2.2.2.2.2.2.2.2.2.2.2.2.2.2.2.2.2.1), ((o + 70), a_asked), ((o + 73), x2_0.2.2.2.2.2.2.2.2.2.2.2.2.2.2.2.2.2.2.1), ((o + 74), x2_0.2.2.2.2.2.2.2.2.2.2.2.2.2.2.2.2.2.2.2)]) B Q H → va_S (gA G) s.heap H locs → W p l e ({ frames := (d + 1) + 3, cells := 0, slots := 0, locals := (d + 1) * 23 + 75 } : Room) s m args below meth c H locs 0 0 Z (F0 m pc ls []) := by
      intro x2_0 hf pc H locs ls hd hR hS
      unfold f1_orders_e2_0 at hf
      obtain rfl := some_i hf
      exact hend _ _ _ _ hd hR hS
    refine whl_walk (P := fun (s2 : Int32 × Int32 × Int32 × Int32 × Int32 × Int32 × Int32 × Int32 × Int32 × Int32 × Int32 × (Option Nat) × (Nat → Int32) × (Nat → Int32) × (Nat → Int32) × (Nat → Int32) × (Nat → Int32) × (Nat → Int32) × (Nat → Int32) × (Nat → Int32) × (Nat → Int32)) => ∀ (H : Heap) (locs : List Loc) (ls : Array Slot), RS G K (ov I [(26, o, s2.2.1), (702, (o + 16), s2.2.2.1), (703, (o + 16), s2.2.2.2.1), (704, (o + 16), s2.2.2.2.2.1), (705, (o + 16), s2.2.2.2.2.2.1), (714, (o + 16), s2.2.2.2.2.2.2.1), (715, (o + 16), s2.2.2.2.2.2.2.2.1), (716, (o + 16), s2.2.2.2.2.2.2.2.2.1), (717, (o + 16), s2.2.2.2.2.2.2.2.2.2.1), (718, (o + 16), s2.2.2.2.2.2.2.2.2.2.2.1)]) J (ov X [(701, (o + 16), s2.2.2.2.2.2.2.2.2.2.2.2.1)]) (ova A [((o + 17), s2.2.2.2.2.2.2.2.2.2.2.2.2.1), ((o + 18), s2.2.2.2.2.2.2.2.2.2.2.2.2.2.1), ((o + 19), s2.2.2.2.2.2.2.2.2.2.2.2.2.2.2.1), ((o + 20), s2.2.2.2.2.2.2.2.2.2.2.2.2.2.2.2.1), ((o + 21), s2.2.2.2.2.2.2.2.2.2.2.2.2.2.2.2.2.1), ((o + 22), s2.2.2.2.2.2.2.2.2.2.2.2.2.2.2.2.2.2.1), ((o + 23), s2.2.2.2.2.2.2.2.2.2.2.2.2.2.2.2.2.2.2.1), ((o + 70), a_asked), ((o + 73), s2.2.2.2.2.2.2.2.2.2.2.2.2.2.2.2.2.2.2.2.1), ((o + 74), s2.2.2.2.2.2.2.2.2.2.2.2.2.2.2.2.2.2.2.2.2)]) B Q H → va_S (gA G) s.heap H locs → lv_has ls 4 [(0, .ref o), (1, .int p1), (2, .int p2), (3, .int s2.1)] → W p l e ({ frames := (d + 1) + 3, cells := 0, slots := 0, locals := (d + 1) * 23 + 75 } : Room) s m args below meth c H locs 0 0 Z (F0 m 71 ls [])) (r := rl2) ?_ FU _ hw2 _ _ _ hR hS (lv_sub hl [1, 2, 3, 0] rfl)
    clear hR hS hl hf
    intro s2 o2 hf hk2 H locs ls hR hS hl
    obtain ⟨w2_3, w2_i_bestPeriod, w2_i_o16_many, w2_i_o16_water, w2_i_o16_thrown, w2_i_o16_tick, w2_i_o16_empties, w2_i_o16_backFirst, w2_i_o16_backMany, w2_i_o16_drawn, w2_i_o16_spilt, w2_x0_o16_yard, w2_a_o16_men, w2_a_o16_done, w2_a_o16_busy, w2_a_o16_litres, w2_a_o16_stands, w2_a_o16_first, w2_a_o16_heaps, w2_a_order, w2_a_bestOrder⟩ := s2
    have hf : f1_orders_s2 q_X1_orders p1 p2 i_askedMany i_y_way i_y_pails i_y_draw i_y_thrown a_asked q_y_men mi_hand y w2_3 w2_i_bestPeriod w2_i_o16_many w2_i_o16_water w2_i_o16_thrown w2_i_o16_tick w2_i_o16_empties w2_i_o16_backFirst w2_i_o16_backMany w2_i_o16_drawn w2_i_o16_spilt w2_x0_o16_yard w2_a_o16_men w2_a_o16_done w2_a_o16_busy w2_a_o16_litres w2_a_o16_stands w2_a_o16_first w2_a_o16_heaps w2_a_order w2_a_bestOrder = some o2 := hf
    have hR : RS G K (ov I [(26, o, w2_i_bestPeriod), (702, (o + 16), w2_i_o16_many), (703, (o + 16), w2_i_o16_water), (704, (o + 16), w2_i_o16_thrown), (705, (o + 16), w2_i_o16_tick), (714, (o + 16), w2_i_o16_empties), (715, (o + 16), w2_i_o16_backFirst), (716, (o + 16), w2_i_o16_backMany), (717, (o + 16), w2_i_o16_drawn), (718, (o + 16), w2_i_o16_spilt)]) J (ov X [(701, (o + 16), w2_x0_o16_yard)]) (ova A [((o + 17), w2_a_o16_men), ((o + 18), w2_a_o16_done), ((o + 19), w2_a_o16_busy), ((o + 20), w2_a_o16_litres), ((o + 21), w2_a_o16_stands), ((o + 22), w2_a_o16_first), ((o + 23), w2_a_o16_heaps), ((o + 70), a_asked), ((o + 73), w2_a_order), ((o + 74), w2_a_bestOrder)]) B Q H := hR
    have hl : lv_has ls 4 [(0, .ref o), (1, .int p1), (2, .int p2), (3, .int w2_3)] := hl
    unfold f1_orders_s2 at hf
    refine lv_iload_n hx hb dX1_orders_71 rfl (lv_at hl 3 rfl) ?_
    refine lv_aload_n hx hb dX1_orders_72 rfl (lv_at hl 0 rfl) ?_
    refine n_geti (v := i_askedMany) hx hb hts hown hG hR gFi_X1_308_0 sh_o.1 ((congrFun (ov_no rfl) _).trans e_i_askedMany) dX1_orders_73 ?_
    refine lv_icmp_ge (tgt := 121) hx hb dX1_orders_76 (by decide) (fun c3 => ?_) (fun c3 => ?_)
    · have hf := ite_t c3 hf
      obtain rfl := some_i hf
      replace hk2 : _ = rl2 := hk2
      subst hk2
      exact hx2_0 (w2_i_bestPeriod, w2_i_o16_many, w2_i_o16_water, w2_i_o16_thrown, w2_i_o16_tick, w2_i_o16_empties, w2_i_o16_backFirst, w2_i_o16_backMany, w2_i_o16_drawn, w2_i_o16_spilt, w2_x0_o16_yard, w2_a_o16_men, w2_a_o16_done, w2_a_o16_busy, w2_a_o16_litres, w2_a_o16_stands, w2_a_o16_first, w2_a_o16_heaps, w2_a_order, w2_a_bestOrder) hfo2 _ _ _ _ dX1_orders_121 hR hS
    · have hf := ite_f c3 hf
      refine lv_iload_n hx hb dX1_orders_79 rfl (lv_at hl 2 rfl) ?_
      refine lv_iload_n hx hb dX1_orders_80 rfl (lv_at hl 3 rfl) ?_
      obtain ⟨v4, ev4, hf⟩ := lt_some hf
      refine n_ishr hx hb ev4 dX1_orders_81 ?_
      refine lv_iconst (v := 1) hx hb dX1_orders_82 li_1 ?_
      obtain ⟨v5, ev5, hf⟩ := lt_some hf
      refine n_iand hx hb ev5 dX1_orders_83 ?_
      refine lv_iconst (v := 1) hx hb dX1_orders_84 li_1 ?_
      have hj115 : ∀ (j115_i_bestPeriod : Int32) (j115_i_o16_many : Int32) (j115_i_o16_water : Int32) (j115_i_o16_thrown : Int32) (j115_i_o16_tick : Int32) (j115_i_o16_empties : Int32) (j115_i_o16_backFirst : Int32) (j115_i_o16_backMany : Int32) (j115_i_o16_drawn : Int32) (j115_i_o16_spilt : Int32) (j115_x0_o16_yard : Option Nat) (j115_a_o16_men : Nat → Int32) (j115_a_o16_done : Nat → Int32) (j115_a_o16_busy : Nat → Int32) (j115_a_o16_litres : Nat → Int32) (j115_a_o16_stands : Nat → Int32) (j115_a_o16_first : Nat → Int32) (j115_a_o16_heaps : Nat → Int32) (j115_a_order : Nat → Int32) (j115_a_bestOrder : Nat → Int32), f1_orders_j115 w2_3 j115_i_bestPeriod j115_i_o16_many j115_i_o16_water j115_i_o16_thrown j115_i_o16_tick j115_i_o16_empties j115_i_o16_backFirst j115_i_o16_backMany j115_i_o16_drawn j115_i_o16_spilt j115_x0_o16_yard j115_a_o16_men j115_a_o16_done j115_a_o16_busy j115_a_o16_litres j115_a_o16_stands j115_a_o16_first j115_a_o16_heaps j115_a_order j115_a_bestOrder = some o2 → ∀ (H : Heap) (locs : List Loc) (ls : Array Slot), RS G K (ov I [(26, o, j115_i_bestPeriod), (702, (o + 16), j115_i_o16_many), (703, (o + 16), j115_i_o16_water), (704, (o + 16), j115_i_o16_thrown), (705, (o + 16), j115_i_o16_tick), (714, (o + 16), j115_i_o16_empties), (715, (o + 16), j115_i_o16_backFirst), (716, (o + 16), j115_i_o16_backMany), (717, (o + 16), j115_i_o16_drawn), (718, (o + 16), j115_i_o16_spilt)]) J (ov X [(701, (o + 16), j115_x0_o16_yard)]) (ova A [((o + 17), j115_a_o16_men), ((o + 18), j115_a_o16_done), ((o + 19), j115_a_o16_busy), ((o + 20), j115_a_o16_litres), ((o + 21), j115_a_o16_stands), ((o + 22), j115_a_o16_first), ((o + 23), j115_a_o16_heaps), ((o + 70), a_asked), ((o + 73), j115_a_order), ((o + 74), j115_a_bestOrder)]) B Q H → va_S (gA G) s.heap H locs → lv_has ls 4 [(0, .ref o), (1, .int p1), (2, .int p2), (3, .int w2_3)] → W p l e ({ frames := (d + 1) + 3, cells := 0, slots := 0, locals := (d + 1) * 23 + 75 } : Room) s m args below meth c H locs 0 0 Z (F0 m 115 ls []) := by
        intro j115_i_bestPeriod j115_i_o16_many j115_i_o16_water j115_i_o16_thrown j115_i_o16_tick j115_i_o16_empties j115_i_o16_backFirst j115_i_o16_backMany j115_i_o16_drawn j115_i_o16_spilt j115_x0_o16_yard j115_a_o16_men j115_a_o16_done j115_a_o16_busy j115_a_o16_litres j115_a_o16_stands j115_a_o16_first j115_a_o16_heaps j115_a_order j115_a_bestOrder hf H locs ls hR hS hl
        unfold f1_orders_j115 at hf
        obtain ⟨v6, ev6, hf⟩ := lt_some hf
        refine lv_iinc (k := 3) (v := v6) (lv' := [(3, .int v6), (0, .ref o), (1, .int p1), (2, .int p2)]) hx hb dX1_orders_115 hl rfl (by rw [ev6]; rfl) (by decide) rfl (fun ls hl => ?_)
        refine lv_goto (tgt := 71) hx hb dX1_orders_118 (by decide) ?_
        obtain rfl := some_i hf
        exact hk2 _ _ _ hR hS (lv_sub hl [1, 2, 3, 0] rfl)
      refine lv_icmp_ne (tgt := 91) hx hb dX1_orders_85 (by decide) (fun c7 => ?_) (fun c7 => ?_)
      · have hf := ite_f c7 hf
        refine lv_aload_n hx hb dX1_orders_91 rfl (lv_at hl 0 rfl) ?_
        refine g_getr (b := (o + 73)) hx hb hts hown hG hR gFx_X1_145_0 sh_o.1 ((congrFun (ov_no rfl) _).trans ((sh_o.2 8 _ rfl).2)) dX1_orders_92 ?_
        refine lv_iload_n hx hb dX1_orders_95 rfl (lv_at hl 1 rfl) ?_
        refine lv_aload_n hx hb dX1_orders_96 rfl (lv_at hl 0 rfl) ?_
        refine g_getr (b := (o + 70)) hx hb hts hown hG hR gFx_X1_135_0 sh_o.1 ((congrFun (ov_no rfl) _).trans ((sh_o.2 5 _ rfl).2)) dX1_orders_97 ?_
        refine lv_iload_n hx hb dX1_orders_100 rfl (lv_at hl 3 rfl) ?_
        obtain ⟨c8, hf⟩ := gd_some hf
        obtain ⟨v9, ev9, hf⟩ := lt_some hf
        refine n_iald (x := a_asked) hx hb hG hR k_a_asked c8 (ova_get 7 hN_A rfl) ev9 dX1_orders_101 ?_
        obtain ⟨c10, hf⟩ := gd_some hf
        obtain ⟨u11, eu11, hf⟩ := lt_some hf
        refine n_iast (la' := [((o + 17), w2_a_o16_men), ((o + 18), w2_a_o16_done), ((o + 19), w2_a_o16_busy), ((o + 20), w2_a_o16_litres), ((o + 21), w2_a_o16_stands), ((o + 22), w2_a_o16_first), ((o + 23), w2_a_o16_heaps), ((o + 70), a_asked), ((o + 73), u11), ((o + 74), w2_a_bestOrder)]) hx hb hG hR hS k_a_order c10 hN_A 8 rfl eu11 rfl dX1_orders_102 (fun H locs hR hS => ?_)
        refine lv_aload_n hx hb dX1_orders_103 rfl (lv_at hl 0 rfl) ?_
        refine lv_iload_n hx hb dX1_orders_104 rfl (lv_at hl 1 rfl) ?_
        refine lv_iconst (v := 1) hx hb dX1_orders_105 li_1 ?_
        obtain ⟨v12, ev12, hf⟩ := lt_some hf
        refine n_iadd hx hb ev12 dX1_orders_106 ?_
        refine lv_iload_n hx hb dX1_orders_107 rfl (lv_at hl 2 rfl) ?_
        refine lv_iconst (v := 1) hx hb dX1_orders_108 li_1 ?_
        refine lv_iload_n hx hb dX1_orders_109 rfl (lv_at hl 3 rfl) ?_
        obtain ⟨v13, ev13, hf⟩ := lt_some hf
        refine n_ishl hx hb ev13 dX1_orders_110 ?_
        obtain ⟨v14, ev14, hf⟩ := lt_some hf
        refine n_ior hx hb ev14 dX1_orders_111 ?_
        obtain ⟨rr15, hrr15, hf⟩ := bind_s hf
        refine g0_cVv (rm := (d + 3, d * 23 + 75)) (As := [.int v12, .int v14]) (rest := []) ⟨hx, hb, hml, hown, hts⟩ hG hR hS (ih_X1_orders G K (ov I [(26, o, w2_i_bestPeriod), (702, (o + 16), w2_i_o16_many), (703, (o + 16), w2_i_o16_water), (704, (o + 16), w2_i_o16_thrown), (705, (o + 16), w2_i_o16_tick), (714, (o + 16), w2_i_o16_empties), (715, (o + 16), w2_i_o16_backFirst), (716, (o + 16), w2_i_o16_backMany), (717, (o + 16), w2_i_o16_drawn), (718, (o + 16), w2_i_o16_spilt)]) J (ov X [(701, (o + 16), w2_x0_o16_yard)]) (ova A [((o + 17), w2_a_o16_men), ((o + 18), w2_a_o16_done), ((o + 19), w2_a_o16_busy), ((o + 20), w2_a_o16_litres), ((o + 21), w2_a_o16_stands), ((o + 22), w2_a_o16_first), ((o + 23), w2_a_o16_heaps), ((o + 70), a_asked), ((o + 73), u11), ((o + 74), w2_a_bestOrder)]) B Q o y (Sh.ov rfl sh_o) (Sh.ov rfl sh_y) (Sh.ov rfl sh_o16) sh_o7 ((congrFun (ov_no rfl) _).trans x_o7_yard) ((congrFun (ov_no rfl) _).trans x_o_row) ((congrFun (ov_no rfl) _).trans x_o_now) v12 v14 i_askedMany w2_i_bestPeriod i_y_way i_y_pails i_y_draw i_y_thrown w2_i_o16_many w2_i_o16_water w2_i_o16_thrown w2_i_o16_tick w2_i_o16_empties w2_i_o16_backFirst w2_i_o16_backMany w2_i_o16_drawn w2_i_o16_spilt w2_x0_o16_yard w2_a_o16_men w2_a_o16_done w2_a_o16_busy w2_a_o16_litres w2_a_o16_stands w2_a_o16_first w2_a_o16_heaps a_asked u11 w2_a_bestOrder q_y_men mi_hand ((congrFun (ov_no rfl) _).trans e_i_askedMany) (ov_get 0 rfl rfl) ((congrFun (ov_no rfl) _).trans e_i_y_way) ((congrFun (ov_no rfl) _).trans e_i_y_pails) ((congrFun (ov_no rfl) _).trans e_i_y_draw) ((congrFun (ov_no rfl) _).trans e_i_y_thrown) (ov_get 1 rfl rfl) (ov_get 2 rfl rfl) (ov_get 3 rfl rfl) (ov_get 4 rfl rfl) (ov_get 5 rfl rfl) (ov_get 6 rfl rfl) (ov_get 7 rfl rfl) (ov_get 8 rfl rfl) (ov_get 9 rfl rfl) (ov_get 0 rfl rfl) (ova_get 0 hN_A rfl) (ova_get 1 hN_A rfl) (ova_get 2 hN_A rfl) (ova_get 3 hN_A rfl) (ova_get 4 hN_A rfl) (ova_get 5 hN_A rfl) (ova_get 6 hN_A rfl) (ova_get 7 hN_A rfl) (ova_get 8 hN_A rfl) (ova_get 9 hN_A rfl) e_q_y_men ((ov_no rfl).trans e_mi_hand) hman rr15 hrr15) (cwV 2 hts gi_X1_372 rfl rfl rfl hd_X1_orders ⟨by dsimp only; omega, by dsimp only; omega⟩) sh_o.1 rfl rfl hl.1 (Nat.le_of_ble_eq_true rfl) dX1_orders_112 ⟨Nat.le_refl _, Nat.le_refl _⟩ rfl (fun H locs hR hS => ?_)
        have hR : RS G K (ov I [(26, o, rr15.1), (702, (o + 16), rr15.2.1), (703, (o + 16), rr15.2.2.1), (704, (o + 16), rr15.2.2.2.1), (705, (o + 16), rr15.2.2.2.2.1), (714, (o + 16), rr15.2.2.2.2.2.1), (715, (o + 16), rr15.2.2.2.2.2.2.1), (716, (o + 16), rr15.2.2.2.2.2.2.2.1), (717, (o + 16), rr15.2.2.2.2.2.2.2.2.1), (718, (o + 16), rr15.2.2.2.2.2.2.2.2.2.1)]) J (ov X [(701, (o + 16), rr15.2.2.2.2.2.2.2.2.2.2.1)]) (ova A [((o + 17), rr15.2.2.2.2.2.2.2.2.2.2.2.1), ((o + 18), rr15.2.2.2.2.2.2.2.2.2.2.2.2.1), ((o + 19), rr15.2.2.2.2.2.2.2.2.2.2.2.2.2.1), ((o + 20), rr15.2.2.2.2.2.2.2.2.2.2.2.2.2.2.1), ((o + 21), rr15.2.2.2.2.2.2.2.2.2.2.2.2.2.2.2.1), ((o + 22), rr15.2.2.2.2.2.2.2.2.2.2.2.2.2.2.2.2.1), ((o + 23), rr15.2.2.2.2.2.2.2.2.2.2.2.2.2.2.2.2.2.1), ((o + 70), a_asked), ((o + 73), rr15.2.2.2.2.2.2.2.2.2.2.2.2.2.2.2.2.2.2.1), ((o + 74), rr15.2.2.2.2.2.2.2.2.2.2.2.2.2.2.2.2.2.2.2)]) B Q H := hR.to (ov_over (l := [(26, o, w2_i_bestPeriod), (702, (o + 16), w2_i_o16_many), (703, (o + 16), w2_i_o16_water), (704, (o + 16), w2_i_o16_thrown), (705, (o + 16), w2_i_o16_tick), (714, (o + 16), w2_i_o16_empties), (715, (o + 16), w2_i_o16_backFirst), (716, (o + 16), w2_i_o16_backMany), (717, (o + 16), w2_i_o16_drawn), (718, (o + 16), w2_i_o16_spilt)]) rfl) rfl (ov_merge (l := [(701, (o + 16), w2_x0_o16_yard)]) rfl [0] [(701, (o + 16), rr15.2.2.2.2.2.2.2.2.2.2.1)] rfl rfl) (ova_over (l := [((o + 17), w2_a_o16_men), ((o + 18), w2_a_o16_done), ((o + 19), w2_a_o16_busy), ((o + 20), w2_a_o16_litres), ((o + 21), w2_a_o16_stands), ((o + 22), w2_a_o16_first), ((o + 23), w2_a_o16_heaps), ((o + 70), a_asked), ((o + 73), u11), ((o + 74), w2_a_bestOrder)]) rfl) rfl rfl
        exact hj115 rr15.1 rr15.2.1 rr15.2.2.1 rr15.2.2.2.1 rr15.2.2.2.2.1 rr15.2.2.2.2.2.1 rr15.2.2.2.2.2.2.1 rr15.2.2.2.2.2.2.2.1 rr15.2.2.2.2.2.2.2.2.1 rr15.2.2.2.2.2.2.2.2.2.1 rr15.2.2.2.2.2.2.2.2.2.2.1 rr15.2.2.2.2.2.2.2.2.2.2.2.1 rr15.2.2.2.2.2.2.2.2.2.2.2.2.1 rr15.2.2.2.2.2.2.2.2.2.2.2.2.2.1 rr15.2.2.2.2.2.2.2.2.2.2.2.2.2.2.1 rr15.2.2.2.2.2.2.2.2.2.2.2.2.2.2.2.1 rr15.2.2.2.2.2.2.2.2.2.2.2.2.2.2.2.2.1 rr15.2.2.2.2.2.2.2.2.2.2.2.2.2.2.2.2.2.1 rr15.2.2.2.2.2.2.2.2.2.2.2.2.2.2.2.2.2.2.1 rr15.2.2.2.2.2.2.2.2.2.2.2.2.2.2.2.2.2.2.2 hf _ _ _ hR hS (lv_sub hl [0, 1, 2, 3] rfl)
      · have hf := ite_t c7 hf
        refine lv_goto (tgt := 115) hx hb dX1_orders_88 (by decide) ?_
        exact hj115 w2_i_bestPeriod w2_i_o16_many w2_i_o16_water w2_i_o16_thrown w2_i_o16_tick w2_i_o16_empties w2_i_o16_backFirst w2_i_o16_backMany w2_i_o16_drawn w2_i_o16_spilt w2_x0_o16_yard w2_a_o16_men w2_a_o16_done w2_a_o16_busy w2_a_o16_litres w2_a_o16_stands w2_a_o16_first w2_a_o16_heaps w2_a_order w2_a_bestOrder hf _ _ _ hR hS (lv_sub hl [0, 1, 2, 3] rfl)
  · have hf := ite_t c1 hf
    refine lv_aload_n hx hb dX1_orders_8 rfl (lv_at hl 0 rfl) ?_
    refine g_getr (b := (o + 16)) hx hb hts hown hG hR gFx_X1_119_0 sh_o.1 ((congrFun (ov_no rfl) _).trans x_o_row) dX1_orders_9 ?_
    refine lv_aload_n hx hb dX1_orders_12 rfl (lv_at hl 0 rfl) ?_
    refine g_getr (b := (o + 7)) hx hb hts hown hG hR gFx_X1_96_0 sh_o.1 ((congrFun (ov_no rfl) _).trans x_o_now) dX1_orders_13 ?_
    refine g_getr (b := y) hx hb hts hown hG hR gFx_X1_241_2 sh_o7 ((congrFun (ov_no rfl) _).trans x_o7_yard) dX1_orders_16 ?_
    refine lv_aload_n hx hb dX1_orders_19 rfl (lv_at hl 0 rfl) ?_
    refine g_getr (b := (o + 73)) hx hb hts hown hG hR gFx_X1_145_0 sh_o.1 ((congrFun (ov_no rfl) _).trans ((sh_o.2 8 _ rfl).2)) dX1_orders_20 ?_
    refine lv_iload_n hx hb dX1_orders_23 rfl (lv_at hl 1 rfl) ?_
    refine lv_iconst (v := 0) hx hb dX1_orders_24 li_0 ?_
    obtain ⟨rr16, hrr16, hf⟩ := bind_s hf
    refine g0_cVv (rm := (2, 50)) (As := [.ref y, .ref (o + 73), .int p1, .int (0 : Int32)]) (rest := []) ⟨hx, hb, hml, hown, hts⟩ hG hR hS (m10_begin l G K (ov I [(26, o, i_bestPeriod), (702, (o + 16), i_o16_many), (703, (o + 16), i_o16_water), (704, (o + 16), i_o16_thrown), (705, (o + 16), i_o16_tick), (714, (o + 16), i_o16_empties), (715, (o + 16), i_o16_backFirst), (716, (o + 16), i_o16_backMany), (717, (o + 16), i_o16_drawn), (718, (o + 16), i_o16_spilt)]) J (ov X [(701, (o + 16), x0_o16_yard)]) (ova A [((o + 17), a_o16_men), ((o + 18), a_o16_done), ((o + 19), a_o16_busy), ((o + 20), a_o16_litres), ((o + 21), a_o16_stands), ((o + 22), a_o16_first), ((o + 23), a_o16_heaps), ((o + 70), a_asked), ((o + 73), a_order), ((o + 74), a_bestOrder)]) B Q (o + 16) y (Sh.ov rfl sh_o16) (Sh.ov rfl sh_y) (o + 73) 7 k_a_order (by omega) p1 (0 : Int32) i_y_pails i_o16_many i_o16_water i_o16_thrown i_o16_tick i_o16_empties i_o16_backFirst i_o16_backMany i_o16_drawn i_o16_spilt x0_o16_yard a_o16_men a_o16_done a_o16_busy a_o16_litres a_o16_stands a_o16_first a_o16_heaps a_order ((congrFun (ov_no rfl) _).trans e_i_y_pails) (ov_get 1 rfl rfl) (ov_get 2 rfl rfl) (ov_get 3 rfl rfl) (ov_get 4 rfl rfl) (ov_get 5 rfl rfl) (ov_get 6 rfl rfl) (ov_get 7 rfl rfl) (ov_get 8 rfl rfl) (ov_get 9 rfl rfl) (ov_get 0 rfl rfl) (ova_get 0 hN_A rfl) (ova_get 1 hN_A rfl) (ova_get 2 hN_A rfl) (ova_get 3 hN_A rfl) (ova_get 4 hN_A rfl) (ova_get 5 hN_A rfl) (ova_get 6 hN_A rfl) (ova_get 8 hN_A rfl) rr16 hrr16) (cwV 4 hts gi_X1_323 rfl rfl rfl hd_X10_begin ⟨by dsimp only; omega, by dsimp only; omega⟩) sh_o16.1 rfl rfl hl.1 (Nat.le_of_ble_eq_true rfl) dX1_orders_25 ⟨Nat.le_refl _, Nat.le_refl _⟩ rfl (fun H locs hR hS => ?_)
    have hR : RS G K (ov I [(26, o, i_bestPeriod), (702, (o + 16), rr16.1), (703, (o + 16), rr16.2.1), (704, (o + 16), rr16.2.2.1), (705, (o + 16), rr16.2.2.2.1), (714, (o + 16), rr16.2.2.2.2.1), (715, (o + 16), rr16.2.2.2.2.2.1), (716, (o + 16), rr16.2.2.2.2.2.2.1), (717, (o + 16), rr16.2.2.2.2.2.2.2.1), (718, (o + 16), rr16.2.2.2.2.2.2.2.2.1)]) J (ov X [(701, (o + 16), (some y))]) (ova A [((o + 17), rr16.2.2.2.2.2.2.2.2.2.1), ((o + 18), rr16.2.2.2.2.2.2.2.2.2.2.1), ((o + 19), rr16.2.2.2.2.2.2.2.2.2.2.2.1), ((o + 20), rr16.2.2.2.2.2.2.2.2.2.2.2.2.1), ((o + 21), rr16.2.2.2.2.2.2.2.2.2.2.2.2.2.1), ((o + 22), rr16.2.2.2.2.2.2.2.2.2.2.2.2.2.2.1), ((o + 23), rr16.2.2.2.2.2.2.2.2.2.2.2.2.2.2.2), ((o + 70), a_asked), ((o + 73), a_order), ((o + 74), a_bestOrder)]) B Q H := hR.to (ov_mix (l := [(26, o, i_bestPeriod), (702, (o + 16), i_o16_many), (703, (o + 16), i_o16_water), (704, (o + 16), i_o16_thrown), (705, (o + 16), i_o16_tick), (714, (o + 16), i_o16_empties), (715, (o + 16), i_o16_backFirst), (716, (o + 16), i_o16_backMany), (717, (o + 16), i_o16_drawn), (718, (o + 16), i_o16_spilt)]) (l1 := [(26, o, i_bestPeriod), (702, (o + 16), rr16.1), (703, (o + 16), rr16.2.1), (704, (o + 16), rr16.2.2.1), (705, (o + 16), rr16.2.2.2.1), (714, (o + 16), rr16.2.2.2.2.1), (715, (o + 16), rr16.2.2.2.2.2.1), (716, (o + 16), rr16.2.2.2.2.2.2.1), (717, (o + 16), rr16.2.2.2.2.2.2.2.1), (718, (o + 16), rr16.2.2.2.2.2.2.2.2.1)]) (es := [(702, (o + 16), rr16.1), (703, (o + 16), rr16.2.1), (704, (o + 16), rr16.2.2.1), (705, (o + 16), rr16.2.2.2.1), (714, (o + 16), rr16.2.2.2.2.1), (715, (o + 16), rr16.2.2.2.2.2.1), (716, (o + 16), rr16.2.2.2.2.2.2.1), (717, (o + 16), rr16.2.2.2.2.2.2.2.1), (718, (o + 16), rr16.2.2.2.2.2.2.2.2.1)]) (nd_key rfl) rfl [1, 2, 3, 4, 5, 6, 7, 8, 9] [0] 10 rfl (by decide) rfl rfl) rfl (ov_merge (l := [(701, (o + 16), x0_o16_yard)]) rfl [0] [(701, (o + 16), (some y))] rfl rfl) (ova_mix (l := [((o + 17), a_o16_men), ((o + 18), a_o16_done), ((o + 19), a_o16_busy), ((o + 20), a_o16_litres), ((o + 21), a_o16_stands), ((o + 22), a_o16_first), ((o + 23), a_o16_heaps), ((o + 70), a_asked), ((o + 73), a_order), ((o + 74), a_bestOrder)]) (l1 := [((o + 17), rr16.2.2.2.2.2.2.2.2.2.1), ((o + 18), rr16.2.2.2.2.2.2.2.2.2.2.1), ((o + 19), rr16.2.2.2.2.2.2.2.2.2.2.2.1), ((o + 20), rr16.2.2.2.2.2.2.2.2.2.2.2.2.1), ((o + 21), rr16.2.2.2.2.2.2.2.2.2.2.2.2.2.1), ((o + 22), rr16.2.2.2.2.2.2.2.2.2.2.2.2.2.2.1), ((o + 23), rr16.2.2.2.2.2.2.2.2.2.2.2.2.2.2.2), ((o + 70), a_asked), ((o + 73), a_order), ((o + 74), a_bestOrder)]) (es := [((o + 17), rr16.2.2.2.2.2.2.2.2.2.1), ((o + 18), rr16.2.2.2.2.2.2.2.2.2.2.1), ((o + 19), rr16.2.2.2.2.2.2.2.2.2.2.2.1), ((o + 20), rr16.2.2.2.2.2.2.2.2.2.2.2.2.1), ((o + 21), rr16.2.2.2.2.2.2.2.2.2.2.2.2.2.1), ((o + 22), rr16.2.2.2.2.2.2.2.2.2.2.2.2.2.2.1), ((o + 23), rr16.2.2.2.2.2.2.2.2.2.2.2.2.2.2.2), ((o + 73), a_order)]) hN_A rfl [0, 1, 2, 3, 4, 5, 6, 8] [7, 9] 10 rfl (by decide) rfl rfl) rfl rfl
    refine lv_aload_n hx hb dX1_orders_28 rfl (lv_at hl 0 rfl) ?_
    refine g_getr (b := (o + 16)) hx hb hts hown hG hR gFx_X1_119_0 sh_o.1 ((congrFun (ov_no rfl) _).trans x_o_row) dX1_orders_29 ?_
    obtain ⟨rr17, hrr17, hf⟩ := bind_s hf
    refine g0_cV (rm := (2, 43)) (As := []) (rest := []) ⟨hx, hb, hml, hown, hts⟩ hG hR hS (m10_period l G K (ov I [(26, o, i_bestPeriod), (702, (o + 16), rr16.1), (703, (o + 16), rr16.2.1), (704, (o + 16), rr16.2.2.1), (705, (o + 16), rr16.2.2.2.1), (714, (o + 16), rr16.2.2.2.2.1), (715, (o + 16), rr16.2.2.2.2.2.1), (716, (o + 16), rr16.2.2.2.2.2.2.1), (717, (o + 16), rr16.2.2.2.2.2.2.2.1), (718, (o + 16), rr16.2.2.2.2.2.2.2.2.1)]) J (ov X [(701, (o + 16), (some y))]) (ova A [((o + 17), rr16.2.2.2.2.2.2.2.2.2.1), ((o + 18), rr16.2.2.2.2.2.2.2.2.2.2.1), ((o + 19), rr16.2.2.2.2.2.2.2.2.2.2.2.1), ((o + 20), rr16.2.2.2.2.2.2.2.2.2.2.2.2.1), ((o + 21), rr16.2.2.2.2.2.2.2.2.2.2.2.2.2.1), ((o + 22), rr16.2.2.2.2.2.2.2.2.2.2.2.2.2.2.1), ((o + 23), rr16.2.2.2.2.2.2.2.2.2.2.2.2.2.2.2), ((o + 70), a_asked), ((o + 73), a_order), ((o + 74), a_bestOrder)]) B Q (o + 16) y (Sh.ov rfl sh_o16) (Sh.ov rfl sh_y) (ov_get 0 rfl rfl) i_y_way i_y_draw i_y_thrown rr16.1 rr16.2.2.2.2.2.2.2.2.2.1 q_y_men mi_hand ((congrFun (ov_no rfl) _).trans e_i_y_way) ((congrFun (ov_no rfl) _).trans e_i_y_draw) ((congrFun (ov_no rfl) _).trans e_i_y_thrown) (ov_get 1 rfl rfl) (ova_get 0 hN_A rfl) e_q_y_men ((ov_no rfl).trans e_mi_hand) hman rr17 hrr17) (cwV 0 hts gi_X1_365 rfl rfl rfl hd_X10_period ⟨by dsimp only; omega, by dsimp only; omega⟩) sh_o16.1 rfl rfl hl.1 (Nat.le_of_ble_eq_true rfl) dX1_orders_32 ⟨Nat.le_refl _, Nat.le_refl _⟩ rfl (fun H locs hR hS => ?_)
    refine lv_aload_n hx hb dX1_orders_35 rfl (lv_at hl 0 rfl) ?_
    refine n_geti (v := i_bestPeriod) hx hb hts hown hG hR gFi_X1_369_0 sh_o.1 (ov_get 0 rfl rfl) dX1_orders_36 ?_
    refine lv_icmp_lt (tgt := 43) hx hb dX1_orders_39 (by decide) (fun c18 => ?_) (fun c18 => ?_)
    · have hf := ite_t c18 hf
      refine lv_aload_n hx hb dX1_orders_43 rfl (lv_at hl 0 rfl) ?_
      refine lv_aload_n hx hb dX1_orders_44 rfl (lv_at hl 0 rfl) ?_
      refine g_getr (b := (o + 16)) hx hb hts hown hG hR gFx_X1_119_0 sh_o.1 ((congrFun (ov_no rfl) _).trans x_o_row) dX1_orders_45 ?_
      obtain ⟨rr19, hrr19, hf⟩ := bind_s hf
      refine g0_cV (rm := (2, 43)) (As := []) (rest := [.ref o]) ⟨hx, hb, hml, hown, hts⟩ hG hR hS (m10_period l G K (ov I [(26, o, i_bestPeriod), (702, (o + 16), rr16.1), (703, (o + 16), rr16.2.1), (704, (o + 16), rr16.2.2.1), (705, (o + 16), rr16.2.2.2.1), (714, (o + 16), rr16.2.2.2.2.1), (715, (o + 16), rr16.2.2.2.2.2.1), (716, (o + 16), rr16.2.2.2.2.2.2.1), (717, (o + 16), rr16.2.2.2.2.2.2.2.1), (718, (o + 16), rr16.2.2.2.2.2.2.2.2.1)]) J (ov X [(701, (o + 16), (some y))]) (ova A [((o + 17), rr16.2.2.2.2.2.2.2.2.2.1), ((o + 18), rr16.2.2.2.2.2.2.2.2.2.2.1), ((o + 19), rr16.2.2.2.2.2.2.2.2.2.2.2.1), ((o + 20), rr16.2.2.2.2.2.2.2.2.2.2.2.2.1), ((o + 21), rr16.2.2.2.2.2.2.2.2.2.2.2.2.2.1), ((o + 22), rr16.2.2.2.2.2.2.2.2.2.2.2.2.2.2.1), ((o + 23), rr16.2.2.2.2.2.2.2.2.2.2.2.2.2.2.2), ((o + 70), a_asked), ((o + 73), a_order), ((o + 74), a_bestOrder)]) B Q (o + 16) y (Sh.ov rfl sh_o16) (Sh.ov rfl sh_y) (ov_get 0 rfl rfl) i_y_way i_y_draw i_y_thrown rr16.1 rr16.2.2.2.2.2.2.2.2.2.1 q_y_men mi_hand ((congrFun (ov_no rfl) _).trans e_i_y_way) ((congrFun (ov_no rfl) _).trans e_i_y_draw) ((congrFun (ov_no rfl) _).trans e_i_y_thrown) (ov_get 1 rfl rfl) (ova_get 0 hN_A rfl) e_q_y_men ((ov_no rfl).trans e_mi_hand) hman rr19 hrr19) (cwV 0 hts gi_X1_365 rfl rfl rfl hd_X10_period ⟨by dsimp only; omega, by dsimp only; omega⟩) sh_o16.1 rfl rfl hl.1 (Nat.le_of_ble_eq_true rfl) dX1_orders_48 ⟨Nat.le_refl _, Nat.le_refl _⟩ rfl (fun H locs hR hS => ?_)
      refine n_puti (li' := [(26, o, rr19), (702, (o + 16), rr16.1), (703, (o + 16), rr16.2.1), (704, (o + 16), rr16.2.2.1), (705, (o + 16), rr16.2.2.2.1), (714, (o + 16), rr16.2.2.2.2.1), (715, (o + 16), rr16.2.2.2.2.2.1), (716, (o + 16), rr16.2.2.2.2.2.2.1), (717, (o + 16), rr16.2.2.2.2.2.2.2.1), (718, (o + 16), rr16.2.2.2.2.2.2.2.2.1)]) hx hb hts hown hG hR hS gPi_X1_369_0 sh_o.1 0 rfl rfl rfl dX1_orders_51 (fun H locs hR hS => ?_)
      refine lv_aload_n hx hb dX1_orders_54 rfl (lv_at hl 0 rfl) ?_
      refine g_getr (b := (o + 73)) hx hb hts hown hG hR gFx_X1_145_0 sh_o.1 ((congrFun (ov_no rfl) _).trans ((sh_o.2 8 _ rfl).2)) dX1_orders_55 ?_
      refine lv_iconst (v := 0) hx hb dX1_orders_58 li_0 ?_
      refine lv_aload_n hx hb dX1_orders_59 rfl (lv_at hl 0 rfl) ?_
      refine g_getr (b := (o + 74)) hx hb hts hown hG hR gFx_X1_148_0 sh_o.1 ((congrFun (ov_no rfl) _).trans ((sh_o.2 9 _ rfl).2)) dX1_orders_60 ?_
      refine lv_iconst (v := 0) hx hb dX1_orders_63 li_0 ?_
      refine lv_iload_n hx hb dX1_orders_64 rfl (lv_at hl 1 rfl) ?_
      obtain ⟨c20, hf⟩ := gd_some hf
      obtain ⟨u21, eu21, hf⟩ := lt_some hf
      refine n_copy (la' := [((o + 17), rr16.2.2.2.2.2.2.2.2.2.1), ((o + 18), rr16.2.2.2.2.2.2.2.2.2.2.1), ((o + 19), rr16.2.2.2.2.2.2.2.2.2.2.2.1), ((o + 20), rr16.2.2.2.2.2.2.2.2.2.2.2.2.1), ((o + 21), rr16.2.2.2.2.2.2.2.2.2.2.2.2.2.1), ((o + 22), rr16.2.2.2.2.2.2.2.2.2.2.2.2.2.2.1), ((o + 23), rr16.2.2.2.2.2.2.2.2.2.2.2.2.2.2.2), ((o + 70), a_asked), ((o + 73), a_order), ((o + 74), u21)]) (t := 0) hx hb (hml.trans hl.1.symm) hown (hts _ q1210) (hts _ q1142) (hts _ q1141) (hts _ q126) hG hR hS k_a_order k_a_bestOrder (by decide) rfl rfl c20 8 9 hN_A rfl rfl (fun _ _ => rfl) eu21 rfl (Nat.le_trans (Nat.le_of_ble_eq_true rfl : 1 ≤ 3) (Nat.le_add_left _ _)) (Nat.le_trans (m := 75) (Nat.le_of_ble_eq_true rfl) (Nat.le_add_left _ _)) dX1_orders_65 (fun H locs hR hS => ?_)
      obtain rfl := some_i hf
      exact hend _ _ _ _ dX1_orders_68 hR hS
    · have hf := ite_f c18 hf
      obtain rfl := some_i hf
      exact hend _ _ _ _ dX1_orders_42 hR hS
theorem f1_orders_z : f1_orders 0 = fun _ _ _ _ _ _ _ _ _ _ _ _ _ _ _ _ _ _ _ _ _ _ _ _ _ _ _ _ _ _ _ => none := rfl
theorem f1_orders_s (d : Nat) : f1_orders (d + 1) = fb1_orders (f1_orders d) := rfl
theorem mG_X1_orders (l : Launch) : ∀ d : Nat, (∀ (G : gG) (K : gK) (I : gI) (J : gJ) (X : gX) (A : gI) (B : gJ) (Q : gX) (o : Nat) (y : Nat) (sh_o : Sh K X o 0 rows0) (sh_y : Sh K X y 3 rows3) (sh_o16 : Sh K X (o + 16) 7 rows7) (sh_o7 : K (o + 7) = some (.inl 2)) (x_o7_yard : X 200 (o + 7) = some y) (x_o_row : X 13 o = some (o + 16)) (x_o_now : X 9 o = some (o + 7)) (p1 : Int32) (p2 : Int32) (i_askedMany : Int32) (i_bestPeriod : Int32) (i_y_way : Int32) (i_y_pails : Int32) (i_y_draw : Int32) (i_y_thrown : Int32) (i_o16_many : Int32) (i_o16_water : Int32) (i_o16_thrown : Int32) (i_o16_tick : Int32) (i_o16_empties : Int32) (i_o16_backFirst : Int32) (i_o16_backMany : Int32) (i_o16_drawn : Int32) (i_o16_spilt : Int32) (x0_o16_yard : Option Nat) (a_o16_men : Nat → Int32) (a_o16_done : Nat → Int32) (a_o16_busy : Nat → Int32) (a_o16_litres : Nat → Int32) (a_o16_stands : Nat → Int32) (a_o16_first : Nat → Int32) (a_o16_heaps : Nat → Int32) (a_asked : Nat → Int32) (a_order : Nat → Int32) (a_bestOrder : Nat → Int32) (q_y_men : Nat → Option Nat) (mi_hand : Nat → Int32) (e_i_askedMany : I 18 o = i_askedMany) (e_i_bestPeriod : I 26 o = i_bestPeriod) (e_i_y_way : I 306 y = i_y_way) (e_i_y_pails : I 307 y = i_y_pails) (e_i_y_draw : I 309 y = i_y_draw) (e_i_y_thrown : I 313 y = i_y_thrown) (e_i_o16_many : I 702 (o + 16) = i_o16_many) (e_i_o16_water : I 703 (o + 16) = i_o16_water) (e_i_o16_thrown : I 704 (o + 16) = i_o16_thrown) (e_i_o16_tick : I 705 (o + 16) = i_o16_tick) (e_i_o16_empties : I 714 (o + 16) = i_o16_empties) (e_i_o16_backFirst : I 715 (o + 16) = i_o16_backFirst) (e_i_o16_backMany : I 716 (o + 16) = i_o16_backMany) (e_i_o16_drawn : I 717 (o + 16) = i_o16_drawn) (e_i_o16_spilt : I 718 (o + 16) = i_o16_spilt) (e_x0_o16_yard : X 701 (o + 16) = x0_o16_yard) (e_a_o16_men : A (o + 17) = a_o16_men) (e_a_o16_done : A (o + 18) = a_o16_done) (e_a_o16_busy : A (o + 19) = a_o16_busy) (e_a_o16_litres : A (o + 20) = a_o16_litres) (e_a_o16_stands : A (o + 21) = a_o16_stands) (e_a_o16_first : A (o + 22) = a_o16_first) (e_a_o16_heaps : A (o + 23) = a_o16_heaps) (e_a_asked : A (o + 70) = a_asked) (e_a_order : A (o + 73) = a_order) (e_a_bestOrder : A (o + 74) = a_bestOrder) (e_q_y_men : Q (y + 1) = q_y_men) (e_mi_hand : I 1201 = mi_hand) (hman : ∀ (j m : Nat), q_y_men j = some m → K m = some (.inl 12)) (out : Int32 × Int32 × Int32 × Int32 × Int32 × Int32 × Int32 × Int32 × Int32 × Int32 × (Option Nat) × (Nat → Int32) × (Nat → Int32) × (Nat → Int32) × (Nat → Int32) × (Nat → Int32) × (Nat → Int32) × (Nat → Int32) × (Nat → Int32) × (Nat → Int32)) (hf : f1_orders d p1 p2 y i_askedMany i_bestPeriod i_y_way i_y_pails i_y_draw i_y_thrown i_o16_many i_o16_water i_o16_thrown i_o16_tick i_o16_empties i_o16_backFirst i_o16_backMany i_o16_drawn i_o16_spilt x0_o16_yard a_o16_men a_o16_done a_o16_busy a_o16_litres a_o16_stands a_o16_first a_o16_heaps a_asked a_order a_bestOrder q_y_men mi_hand = some out), GMet l yX1_orders cX1_orders 4 none (d + 3) (d * 23 + 75) G [.ref o, .int p1, .int p2] K I J X A B Q none K (ov I [(26, o, out.1), (702, (o + 16), out.2.1), (703, (o + 16), out.2.2.1), (704, (o + 16), out.2.2.2.1), (705, (o + 16), out.2.2.2.2.1), (714, (o + 16), out.2.2.2.2.2.1), (715, (o + 16), out.2.2.2.2.2.2.1), (716, (o + 16), out.2.2.2.2.2.2.2.1), (717, (o + 16), out.2.2.2.2.2.2.2.2.1), (718, (o + 16), out.2.2.2.2.2.2.2.2.2.1)]) J (ov X [(701, (o + 16), out.2.2.2.2.2.2.2.2.2.2.1)]) (ova A [((o + 17), out.2.2.2.2.2.2.2.2.2.2.2.1), ((o + 18), out.2.2.2.2.2.2.2.2.2.2.2.2.1), ((o + 19), out.2.2.2.2.2.2.2.2.2.2.2.2.2.1), ((o + 20), out.2.2.2.2.2.2.2.2.2.2.2.2.2.2.1), ((o + 21), out.2.2.2.2.2.2.2.2.2.2.2.2.2.2.2.1), ((o + 22), out.2.2.2.2.2.2.2.2.2.2.2.2.2.2.2.2.1), ((o + 23), out.2.2.2.2.2.2.2.2.2.2.2.2.2.2.2.2.2.1), ((o + 70), a_asked), ((o + 73), out.2.2.2.2.2.2.2.2.2.2.2.2.2.2.2.2.2.2.1), ((o + 74), out.2.2.2.2.2.2.2.2.2.2.2.2.2.2.2.2.2.2.2)]) B Q 0 0) := by
  intro d
  induction d with
  | zero =>
    exact (by intro G K I J X A B Q o y sh_o sh_y sh_o16 sh_o7 x_o7_yard x_o_row x_o_now p1 p2 i_askedMany i_bestPeriod i_y_way i_y_pails i_y_draw i_y_thrown i_o16_many i_o16_water i_o16_thrown i_o16_tick i_o16_empties i_o16_backFirst i_o16_backMany i_o16_drawn i_o16_spilt x0_o16_yard a_o16_men a_o16_done a_o16_busy a_o16_litres a_o16_stands a_o16_first a_o16_heaps a_asked a_order a_bestOrder q_y_men mi_hand e_i_askedMany e_i_bestPeriod e_i_y_way e_i_y_pails e_i_y_draw e_i_y_thrown e_i_o16_many e_i_o16_water e_i_o16_thrown e_i_o16_tick e_i_o16_empties e_i_o16_backFirst e_i_o16_backMany e_i_o16_drawn e_i_o16_spilt e_x0_o16_yard e_a_o16_men e_a_o16_done e_a_o16_busy e_a_o16_litres e_a_o16_stands e_a_o16_first e_a_o16_heaps e_a_asked e_a_order e_a_bestOrder e_q_y_men e_mi_hand hman out hf; rw [f1_orders_z] at hf; cases hf)
  | succ d ih =>
    exact (by intro G K I J X A B Q o y sh_o sh_y sh_o16 sh_o7 x_o7_yard x_o_row x_o_now p1 p2 i_askedMany i_bestPeriod i_y_way i_y_pails i_y_draw i_y_thrown i_o16_many i_o16_water i_o16_thrown i_o16_tick i_o16_empties i_o16_backFirst i_o16_backMany i_o16_drawn i_o16_spilt x0_o16_yard a_o16_men a_o16_done a_o16_busy a_o16_litres a_o16_stands a_o16_first a_o16_heaps a_asked a_order a_bestOrder q_y_men mi_hand e_i_askedMany e_i_bestPeriod e_i_y_way e_i_y_pails e_i_y_draw e_i_y_thrown e_i_o16_many e_i_o16_water e_i_o16_thrown e_i_o16_tick e_i_o16_empties e_i_o16_backFirst e_i_o16_backMany e_i_o16_drawn e_i_o16_spilt e_x0_o16_yard e_a_o16_men e_a_o16_done e_a_o16_busy e_a_o16_litres e_a_o16_stands e_a_o16_first e_a_o16_heaps e_a_asked e_a_order e_a_bestOrder e_q_y_men e_mi_hand hman out hf; rw [f1_orders_s] at hf; exact w1_orders l d (f1_orders d) ih G K I J X A B Q o y sh_o sh_y sh_o16 sh_o7 x_o7_yard x_o_row x_o_now p1 p2 i_askedMany i_bestPeriod i_y_way i_y_pails i_y_draw i_y_thrown i_o16_many i_o16_water i_o16_thrown i_o16_tick i_o16_empties i_o16_backFirst i_o16_backMany i_o16_drawn i_o16_spilt x0_o16_yard a_o16_men a_o16_done a_o16_busy a_o16_litres a_o16_stands a_o16_first a_o16_heaps a_asked a_order a_bestOrder q_y_men mi_hand e_i_askedMany e_i_bestPeriod e_i_y_way e_i_y_pails e_i_y_draw e_i_y_thrown e_i_o16_many e_i_o16_water e_i_o16_thrown e_i_o16_tick e_i_o16_empties e_i_o16_backFirst e_i_o16_backMany e_i_o16_drawn e_i_o16_spilt e_x0_o16_yard e_a_o16_men e_a_o16_done e_a_o16_busy e_a_o16_litres e_a_o16_stands e_a_o16_first e_a_o16_heaps e_a_asked e_a_order e_a_bestOrder e_q_y_men e_mi_hand hman out hf)
theorem m1_orders (l : Launch) (d : Nat) : ∀ (G : gG) (K : gK) (I : gI) (J : gJ) (X : gX) (A : gI) (B : gJ) (Q : gX) (o : Nat) (y : Nat) (sh_o : Sh K X o 0 rows0) (sh_y : Sh K X y 3 rows3) (sh_o16 : Sh K X (o + 16) 7 rows7) (sh_o7 : K (o + 7) = some (.inl 2)) (x_o7_yard : X 200 (o + 7) = some y) (x_o_row : X 13 o = some (o + 16)) (x_o_now : X 9 o = some (o + 7)) (p1 : Int32) (p2 : Int32) (i_askedMany : Int32) (i_bestPeriod : Int32) (i_y_way : Int32) (i_y_pails : Int32) (i_y_draw : Int32) (i_y_thrown : Int32) (i_o16_many : Int32) (i_o16_water : Int32) (i_o16_thrown : Int32) (i_o16_tick : Int32) (i_o16_empties : Int32) (i_o16_backFirst : Int32) (i_o16_backMany : Int32) (i_o16_drawn : Int32) (i_o16_spilt : Int32) (x0_o16_yard : Option Nat) (a_o16_men : Nat → Int32) (a_o16_done : Nat → Int32) (a_o16_busy : Nat → Int32) (a_o16_litres : Nat → Int32) (a_o16_stands : Nat → Int32) (a_o16_first : Nat → Int32) (a_o16_heaps : Nat → Int32) (a_asked : Nat → Int32) (a_order : Nat → Int32) (a_bestOrder : Nat → Int32) (q_y_men : Nat → Option Nat) (mi_hand : Nat → Int32) (e_i_askedMany : I 18 o = i_askedMany) (e_i_bestPeriod : I 26 o = i_bestPeriod) (e_i_y_way : I 306 y = i_y_way) (e_i_y_pails : I 307 y = i_y_pails) (e_i_y_draw : I 309 y = i_y_draw) (e_i_y_thrown : I 313 y = i_y_thrown) (e_i_o16_many : I 702 (o + 16) = i_o16_many) (e_i_o16_water : I 703 (o + 16) = i_o16_water) (e_i_o16_thrown : I 704 (o + 16) = i_o16_thrown) (e_i_o16_tick : I 705 (o + 16) = i_o16_tick) (e_i_o16_empties : I 714 (o + 16) = i_o16_empties) (e_i_o16_backFirst : I 715 (o + 16) = i_o16_backFirst) (e_i_o16_backMany : I 716 (o + 16) = i_o16_backMany) (e_i_o16_drawn : I 717 (o + 16) = i_o16_drawn) (e_i_o16_spilt : I 718 (o + 16) = i_o16_spilt) (e_x0_o16_yard : X 701 (o + 16) = x0_o16_yard) (e_a_o16_men : A (o + 17) = a_o16_men) (e_a_o16_done : A (o + 18) = a_o16_done) (e_a_o16_busy : A (o + 19) = a_o16_busy) (e_a_o16_litres : A (o + 20) = a_o16_litres) (e_a_o16_stands : A (o + 21) = a_o16_stands) (e_a_o16_first : A (o + 22) = a_o16_first) (e_a_o16_heaps : A (o + 23) = a_o16_heaps) (e_a_asked : A (o + 70) = a_asked) (e_a_order : A (o + 73) = a_order) (e_a_bestOrder : A (o + 74) = a_bestOrder) (e_q_y_men : Q (y + 1) = q_y_men) (e_mi_hand : I 1201 = mi_hand) (hman : ∀ (j m : Nat), q_y_men j = some m → K m = some (.inl 12)) (out : Int32 × Int32 × Int32 × Int32 × Int32 × Int32 × Int32 × Int32 × Int32 × Int32 × (Option Nat) × (Nat → Int32) × (Nat → Int32) × (Nat → Int32) × (Nat → Int32) × (Nat → Int32) × (Nat → Int32) × (Nat → Int32) × (Nat → Int32) × (Nat → Int32)) (hf : f1_orders d p1 p2 y i_askedMany i_bestPeriod i_y_way i_y_pails i_y_draw i_y_thrown i_o16_many i_o16_water i_o16_thrown i_o16_tick i_o16_empties i_o16_backFirst i_o16_backMany i_o16_drawn i_o16_spilt x0_o16_yard a_o16_men a_o16_done a_o16_busy a_o16_litres a_o16_stands a_o16_first a_o16_heaps a_asked a_order a_bestOrder q_y_men mi_hand = some out), GMet l yX1_orders cX1_orders 4 none (d + 3) (d * 23 + 75) G [.ref o, .int p1, .int p2] K I J X A B Q none K (ov I [(26, o, out.1), (702, (o + 16), out.2.1), (703, (o + 16), out.2.2.1), (704, (o + 16), out.2.2.2.1), (705, (o + 16), out.2.2.2.2.1), (714, (o + 16), out.2.2.2.2.2.1), (715, (o + 16), out.2.2.2.2.2.2.1), (716, (o + 16), out.2.2.2.2.2.2.2.1), (717, (o + 16), out.2.2.2.2.2.2.2.2.1), (718, (o + 16), out.2.2.2.2.2.2.2.2.2.1)]) J (ov X [(701, (o + 16), out.2.2.2.2.2.2.2.2.2.2.1)]) (ova A [((o + 17), out.2.2.2.2.2.2.2.2.2.2.2.1), ((o + 18), out.2.2.2.2.2.2.2.2.2.2.2.2.1), ((o + 19), out.2.2.2.2.2.2.2.2.2.2.2.2.2.1), ((o + 20), out.2.2.2.2.2.2.2.2.2.2.2.2.2.2.1), ((o + 21), out.2.2.2.2.2.2.2.2.2.2.2.2.2.2.2.1), ((o + 22), out.2.2.2.2.2.2.2.2.2.2.2.2.2.2.2.2.1), ((o + 23), out.2.2.2.2.2.2.2.2.2.2.2.2.2.2.2.2.2.1), ((o + 70), a_asked), ((o + 73), out.2.2.2.2.2.2.2.2.2.2.2.2.2.2.2.2.2.2.1), ((o + 74), out.2.2.2.2.2.2.2.2.2.2.2.2.2.2.2.2.2.2.2)]) B Q 0 0 := (mG_X1_orders l d)
noncomputable def f1_best_e4_0 (i_y_way : Int32) (i_y_pails : Int32) (i_y_draw : Int32) (i_y_thrown : Int32) (i_o16_many : Int32) (i_o16_water : Int32) (i_o16_thrown : Int32) (i_o16_tick : Int32) (i_o16_empties : Int32) (i_o16_backFirst : Int32) (i_o16_backMany : Int32) (i_o16_drawn : Int32) (i_o16_spilt : Int32) (x0_o16_yard : Option Nat) (a_o16_men : Nat → Int32) (a_o16_done : Nat → Int32) (a_o16_busy : Nat → Int32) (a_o16_litres : Nat → Int32) (a_o16_stands : Nat → Int32) (a_o16_first : Nat → Int32) (a_o16_heaps : Nat → Int32) (a_order : Nat → Int32) (a_bestOrder : Nat → Int32) (q_y_men : Nat → Option Nat) (mi_hand : Nat → Int32) (y : Nat) (rr1 : Int32 × Int32) (rr2 : Int32 × Int32 × (Nat → Int32)) (x4_0 : (Nat → Int32)) : Option (Int32 × Int32 × Int32 × Int32 × Int32 × Int32 × Int32 × Int32 × Int32 × Int32 × Int32 × Int32 × Int32 × Int32 × Int32 × (Option Nat) × (Nat → Int32) × (Nat → Int32) × (Nat → Int32) × (Nat → Int32) × (Nat → Int32) × (Nat → Int32) × (Nat → Int32) × (Nat → Int32) × (Nat → Int32) × (Nat → Int32)) :=
  (f1_orders 9 (0 : Int32) (0 : Int32) y rr2.2.1 (1000000000 : Int32) i_y_way i_y_pails i_y_draw i_y_thrown i_o16_many i_o16_water i_o16_thrown i_o16_tick i_o16_empties i_o16_backFirst i_o16_backMany i_o16_drawn i_o16_spilt x0_o16_yard a_o16_men a_o16_done a_o16_busy a_o16_litres a_o16_stands a_o16_first a_o16_heaps x4_0 a_order a_bestOrder q_y_men mi_hand).bind fun rr5 =>
  some (rr5.1, rr1.1, rr1.2, rr2.2.1, rr2.2.1, rr5.1, rr5.2.1, rr5.2.2.1, rr5.2.2.2.1, rr5.2.2.2.2.1, rr5.2.2.2.2.2.1, rr5.2.2.2.2.2.2.1, rr5.2.2.2.2.2.2.2.1, rr5.2.2.2.2.2.2.2.2.1, rr5.2.2.2.2.2.2.2.2.2.1, rr5.2.2.2.2.2.2.2.2.2.2.1, rr5.2.2.2.2.2.2.2.2.2.2.2.1, rr5.2.2.2.2.2.2.2.2.2.2.2.2.1, rr5.2.2.2.2.2.2.2.2.2.2.2.2.2.1, rr5.2.2.2.2.2.2.2.2.2.2.2.2.2.2.1, rr5.2.2.2.2.2.2.2.2.2.2.2.2.2.2.2.1, rr5.2.2.2.2.2.2.2.2.2.2.2.2.2.2.2.2.1, rr5.2.2.2.2.2.2.2.2.2.2.2.2.2.2.2.2.2.1, x4_0, rr5.2.2.2.2.2.2.2.2.2.2.2.2.2.2.2.2.2.2.1, rr5.2.2.2.2.2.2.2.2.2.2.2.2.2.2.2.2.2.2.2)

noncomputable def f1_best_e9_0 (w4_1 : Int32) (v8 : Int32) (x9_0 : Int32 × (Nat → Int32)) : Option ((Int32 × (Nat → Int32)) ⊕ ((Nat → Int32))) :=
  gd (inb x9_0.1 12) <|
  lt (upd x9_0.2 x9_0.1.toNatClampNeg v8) fun u11 =>
  lt (w4_1 + (1 : Int32)) fun v12 =>
  some (.inl (v12, u11))

noncomputable def f1_best_s9 (v8 : Int32) (w9_3 : Int32) (w9_a_asked : Nat → Int32) : Option ((Int32 × (Nat → Int32)) ⊕ (Int32 × (Nat → Int32))) :=
  if w9_3 ≤ 0 then
    some (.inr (w9_3, w9_a_asked))
  else
    lt (w9_3 - (1 : Int32)) fun v14 =>
    gd (inb v14 12) <|
    lt (w9_a_asked v14.toNatClampNeg) fun v16 =>
    if v16 ≤ v8 then
      some (.inr (w9_3, w9_a_asked))
    else
      lt (w9_3 - (1 : Int32)) fun v18 =>
      gd (inb v18 12) <|
      lt (w9_a_asked v18.toNatClampNeg) fun v20 =>
      gd (inb w9_3 12) <|
      lt (upd w9_a_asked w9_3.toNatClampNeg v20) fun u22 =>
      lt (w9_3 + (-1 : Int32)) fun v23 =>
      some (.inl (v23, u22))

noncomputable def f1_best_s4 (rr2 : Int32 × Int32 × (Nat → Int32)) (w4_1 : Int32) (w4_a_asked : Nat → Int32) : Option ((Int32 × (Nat → Int32)) ⊕ ((Nat → Int32))) :=
  if rr2.2.1 ≤ w4_1 then
    some (.inr w4_a_asked)
  else
    gd (inb w4_1 12) <|
    lt (w4_a_asked w4_1.toNatClampNeg) fun v8 =>
    (whl (fun (s9 : Int32 × (Nat → Int32)) => f1_best_s9 v8 s9.1 s9.2) FU (w4_1, w4_a_asked)).bind fun rl9 =>
    f1_best_e9_0 w4_1 v8 rl9

noncomputable def f1_best (y : Nat) (i_length : Int32) (i_size : Int32) (i_askedMany : Int32) (i_bestMany : Int32) (i_bestPeriod : Int32) (i_y_manMany : Int32) (i_y_way : Int32) (i_y_pails : Int32) (i_y_draw : Int32) (i_y_thrown : Int32) (i_o16_many : Int32) (i_o16_water : Int32) (i_o16_thrown : Int32) (i_o16_tick : Int32) (i_o16_empties : Int32) (i_o16_backFirst : Int32) (i_o16_backMany : Int32) (i_o16_drawn : Int32) (i_o16_spilt : Int32) (x0_o16_yard : Option Nat) (a_tape : Nat → Int32) (a_o16_men : Nat → Int32) (a_o16_done : Nat → Int32) (a_o16_busy : Nat → Int32) (a_o16_litres : Nat → Int32) (a_o16_stands : Nat → Int32) (a_o16_first : Nat → Int32) (a_o16_heaps : Nat → Int32) (a_asked : Nat → Int32) (a_order : Nat → Int32) (a_bestOrder : Nat → Int32) (q_y_men : Nat → Option Nat) (mi_hand : Nat → Int32) : Option (Int32 × Int32 × Int32 × Int32 × Int32 × Int32 × Int32 × Int32 × Int32 × Int32 × Int32 × Int32 × Int32 × Int32 × Int32 × (Option Nat) × (Nat → Int32) × (Nat → Int32) × (Nat → Int32) × (Nat → Int32) × (Nat → Int32) × (Nat → Int32) × (Nat → Int32) × (Nat → Int32) × (Nat → Int32) × (Nat → Int32)) :=
  (f1_taken i_length i_size).bind fun rr1 =>
  (f1_areAsked (2 : Int32) (7 : Int32) rr1.2 i_askedMany i_y_manMany a_tape a_asked).bind fun rr2 =>
  if rr2.1 = 0 then
    some ((-1 : Int32), rr1.1, rr1.2, rr2.2.1, i_bestMany, i_bestPeriod, i_o16_many, i_o16_water, i_o16_thrown, i_o16_tick, i_o16_empties, i_o16_backFirst, i_o16_backMany, i_o16_drawn, i_o16_spilt, x0_o16_yard, a_o16_men, a_o16_done, a_o16_busy, a_o16_litres, a_o16_stands, a_o16_first, a_o16_heaps, rr2.2.2, a_order, a_bestOrder)
  else
    (whl (fun (s4 : Int32 × (Nat → Int32)) => f1_best_s4 rr2 s4.1 s4.2) FU ((1 : Int32), rr2.2.2)).bind fun rl4 =>
    f1_best_e4_0 i_y_way i_y_pails i_y_draw i_y_thrown i_o16_many i_o16_water i_o16_thrown i_o16_tick i_o16_empties i_o16_backFirst i_o16_backMany i_o16_drawn i_o16_spilt x0_o16_yard a_o16_men a_o16_done a_o16_busy a_o16_litres a_o16_stands a_o16_first a_o16_heaps a_order a_bestOrder q_y_men mi_hand y rr1 rr2 rl4
set_option maxHeartbeats 4000000 in
theorem m1_best (l : Launch) (G : gG) (K : gK) (I : gI) (J : gJ) (X : gX) (A : gI) (B : gJ) (Q : gX) (o : Nat) (y : Nat) (sh_o : Sh K X o 0 rows0) (sh_y : Sh K X y 3 rows3) (sh_o7 : K (o + 7) = some (.inl 2)) (sh_o16 : Sh K X (o + 16) 7 rows7) (x_o7_yard : X 200 (o + 7) = some y) (x_o_now : X 9 o = some (o + 7)) (x_o_row : X 13 o = some (o + 16))  (i_length : Int32) (i_size : Int32) (i_askedMany : Int32) (i_bestMany : Int32) (i_bestPeriod : Int32) (i_y_manMany : Int32) (i_y_way : Int32) (i_y_pails : Int32) (i_y_draw : Int32) (i_y_thrown : Int32) (i_o16_many : Int32) (i_o16_water : Int32) (i_o16_thrown : Int32) (i_o16_tick : Int32) (i_o16_empties : Int32) (i_o16_backFirst : Int32) (i_o16_backMany : Int32) (i_o16_drawn : Int32) (i_o16_spilt : Int32) (x0_o16_yard : Option Nat) (a_tape : Nat → Int32) (a_o16_men : Nat → Int32) (a_o16_done : Nat → Int32) (a_o16_busy : Nat → Int32) (a_o16_litres : Nat → Int32) (a_o16_stands : Nat → Int32) (a_o16_first : Nat → Int32) (a_o16_heaps : Nat → Int32) (a_asked : Nat → Int32) (a_order : Nat → Int32) (a_bestOrder : Nat → Int32) (q_y_men : Nat → Option Nat) (mi_hand : Nat → Int32) (e_i_length : I 1 o = i_length) (e_i_size : I 2 o = i_size) (e_i_askedMany : I 18 o = i_askedMany) (e_i_bestMany : I 25 o = i_bestMany) (e_i_bestPeriod : I 26 o = i_bestPeriod) (e_i_y_manMany : I 303 y = i_y_manMany) (e_i_y_way : I 306 y = i_y_way) (e_i_y_pails : I 307 y = i_y_pails) (e_i_y_draw : I 309 y = i_y_draw) (e_i_y_thrown : I 313 y = i_y_thrown) (e_i_o16_many : I 702 (o + 16) = i_o16_many) (e_i_o16_water : I 703 (o + 16) = i_o16_water) (e_i_o16_thrown : I 704 (o + 16) = i_o16_thrown) (e_i_o16_tick : I 705 (o + 16) = i_o16_tick) (e_i_o16_empties : I 714 (o + 16) = i_o16_empties) (e_i_o16_backFirst : I 715 (o + 16) = i_o16_backFirst) (e_i_o16_backMany : I 716 (o + 16) = i_o16_backMany) (e_i_o16_drawn : I 717 (o + 16) = i_o16_drawn) (e_i_o16_spilt : I 718 (o + 16) = i_o16_spilt) (e_x0_o16_yard : X 701 (o + 16) = x0_o16_yard) (e_a_tape : A (o + 1) = a_tape) (e_a_o16_men : A (o + 17) = a_o16_men) (e_a_o16_done : A (o + 18) = a_o16_done) (e_a_o16_busy : A (o + 19) = a_o16_busy) (e_a_o16_litres : A (o + 20) = a_o16_litres) (e_a_o16_stands : A (o + 21) = a_o16_stands) (e_a_o16_first : A (o + 22) = a_o16_first) (e_a_o16_heaps : A (o + 23) = a_o16_heaps) (e_a_asked : A (o + 70) = a_asked) (e_a_order : A (o + 73) = a_order) (e_a_bestOrder : A (o + 74) = a_bestOrder) (e_q_y_men : Q (y + 1) = q_y_men) (e_mi_hand : I 1201 = mi_hand) (hman : ∀ (j m : Nat), q_y_men j = some m → K m = some (.inl 12)) (out : Int32 × Int32 × Int32 × Int32 × Int32 × Int32 × Int32 × Int32 × Int32 × Int32 × Int32 × Int32 × Int32 × Int32 × Int32 × (Option Nat) × (Nat → Int32) × (Nat → Int32) × (Nat → Int32) × (Nat → Int32) × (Nat → Int32) × (Nat → Int32) × (Nat → Int32) × (Nat → Int32) × (Nat → Int32) × (Nat → Int32)) (hf : f1_best y i_length i_size i_askedMany i_bestMany i_bestPeriod i_y_manMany i_y_way i_y_pails i_y_draw i_y_thrown i_o16_many i_o16_water i_o16_thrown i_o16_tick i_o16_empties i_o16_backFirst i_o16_backMany i_o16_drawn i_o16_spilt x0_o16_yard a_tape a_o16_men a_o16_done a_o16_busy a_o16_litres a_o16_stands a_o16_first a_o16_heaps a_asked a_order a_bestOrder q_y_men mi_hand = some out) : GMet l yX1_best cX1_best 4 (some .int) (13) (305) G [.ref o] K I J X A B Q (some (.int out.1)) K (ov I [(1, o, out.2.1), (2, o, out.2.2.1), (18, o, out.2.2.2.1), (25, o, out.2.2.2.2.1), (26, o, out.2.2.2.2.2.1), (702, (o + 16), out.2.2.2.2.2.2.1), (703, (o + 16), out.2.2.2.2.2.2.2.1), (704, (o + 16), out.2.2.2.2.2.2.2.2.1), (705, (o + 16), out.2.2.2.2.2.2.2.2.2.1), (714, (o + 16), out.2.2.2.2.2.2.2.2.2.2.1), (715, (o + 16), out.2.2.2.2.2.2.2.2.2.2.2.1), (716, (o + 16), out.2.2.2.2.2.2.2.2.2.2.2.2.1), (717, (o + 16), out.2.2.2.2.2.2.2.2.2.2.2.2.2.1), (718, (o + 16), out.2.2.2.2.2.2.2.2.2.2.2.2.2.2.1)]) J (ov X [(701, (o + 16), out.2.2.2.2.2.2.2.2.2.2.2.2.2.2.2.1)]) (ova A [((o + 1), a_tape), ((o + 17), out.2.2.2.2.2.2.2.2.2.2.2.2.2.2.2.2.1), ((o + 18), out.2.2.2.2.2.2.2.2.2.2.2.2.2.2.2.2.2.1), ((o + 19), out.2.2.2.2.2.2.2.2.2.2.2.2.2.2.2.2.2.2.1), ((o + 20), out.2.2.2.2.2.2.2.2.2.2.2.2.2.2.2.2.2.2.2.1), ((o + 21), out.2.2.2.2.2.2.2.2.2.2.2.2.2.2.2.2.2.2.2.2.1), ((o + 22), out.2.2.2.2.2.2.2.2.2.2.2.2.2.2.2.2.2.2.2.2.2.1), ((o + 23), out.2.2.2.2.2.2.2.2.2.2.2.2.2.2.2.2.2.2.2.2.2.2.1), ((o + 70), out.2.2.2.2.2.2.2.2.2.2.2.2.2.2.2.2.2.2.2.2.2.2.2.1), ((o + 73), out.2.2.2.2.2.2.2.2.2.2.2.2.2.2.2.2.2.2.2.2.2.2.2.2.1), ((o + 74), out.2.2.2.2.2.2.2.2.2.2.2.2.2.2.2.2.2.2.2.2.2.2.2.2.2)]) B Q 0 0 := by
  refine GMet.of (y := yX1_best) rfl (Nat.le_of_ble_eq_true rfl) rfl ?_
  intro p e s m below meth c ls hx hb hr hml hlocks hts hown hname hG hR hl
  have hown : s.vm.findClass RX1 = some m.cls := hown
  have k_a_tape : K (o + 1) = some (.inr (2, 740)) := (sh_o.2 0 _ rfl).1
  have k_a_o16_men : K (o + 17) = some (.inr (0, 12)) := (sh_o16.2 0 _ rfl).1
  have k_a_o16_done : K (o + 18) = some (.inr (0, 12)) := (sh_o16.2 1 _ rfl).1
  have k_a_o16_busy : K (o + 19) = some (.inr (0, 12)) := (sh_o16.2 2 _ rfl).1
  have k_a_o16_litres : K (o + 20) = some (.inr (0, 12)) := (sh_o16.2 3 _ rfl).1
  have k_a_o16_stands : K (o + 21) = some (.inr (0, 12)) := (sh_o16.2 4 _ rfl).1
  have k_a_o16_first : K (o + 22) = some (.inr (0, 12)) := (sh_o16.2 5 _ rfl).1
  have k_a_o16_heaps : K (o + 23) = some (.inr (0, 12)) := (sh_o16.2 6 _ rfl).1
  have k_a_asked : K (o + 70) = some (.inr (0, 12)) := (sh_o.2 5 _ rfl).1
  have k_a_order : K (o + 73) = some (.inr (0, 7)) := (sh_o.2 8 _ rfl).1
  have k_a_bestOrder : K (o + 74) = some (.inr (0, 7)) := (sh_o.2 9 _ rfl).1
  have k_q_y_men : K (y + 1) = some (.inr (4, 12)) := (sh_y.2 0 _ rfl).1
  have hN_A : nda [(o + 1), (o + 17), (o + 18), (o + 19), (o + 20), (o + 21), (o + 22), (o + 23), (o + 70), (o + 73), (o + 74)] := nd_off o [1, 17, 18, 19, 20, 21, 22, 23, 70, 73, 74] rfl
  have hR : RS G K (ov I [(1, o, i_length), (2, o, i_size), (18, o, i_askedMany), (25, o, i_bestMany), (26, o, i_bestPeriod), (702, (o + 16), i_o16_many), (703, (o + 16), i_o16_water), (704, (o + 16), i_o16_thrown), (705, (o + 16), i_o16_tick), (714, (o + 16), i_o16_empties), (715, (o + 16), i_o16_backFirst), (716, (o + 16), i_o16_backMany), (717, (o + 16), i_o16_drawn), (718, (o + 16), i_o16_spilt)]) J (ov X [(701, (o + 16), x0_o16_yard)]) (ova A [((o + 1), a_tape), ((o + 17), a_o16_men), ((o + 18), a_o16_done), ((o + 19), a_o16_busy), ((o + 20), a_o16_litres), ((o + 21), a_o16_stands), ((o + 22), a_o16_first), ((o + 23), a_o16_heaps), ((o + 70), a_asked), ((o + 73), a_order), ((o + 74), a_bestOrder)]) B Q s.heap := hR.to (Eq.symm (ov_sc e_i_length (ov_sc e_i_size (ov_sc e_i_askedMany (ov_sc e_i_bestMany (ov_sc e_i_bestPeriod (ov_sc e_i_o16_many (ov_sc e_i_o16_water (ov_sc e_i_o16_thrown (ov_sc e_i_o16_tick (ov_sc e_i_o16_empties (ov_sc e_i_o16_backFirst (ov_sc e_i_o16_backMany (ov_sc e_i_o16_drawn (ov_sc e_i_o16_spilt rfl))))))))))))))) rfl (Eq.symm (ov_sc e_x0_o16_yard rfl)) (Eq.symm (ova_sc e_a_tape (ova_sc e_a_o16_men (ova_sc e_a_o16_done (ova_sc e_a_o16_busy (ova_sc e_a_o16_litres (ova_sc e_a_o16_stands (ova_sc e_a_o16_first (ova_sc e_a_o16_heaps (ova_sc e_a_asked (ova_sc e_a_order (ova_sc e_a_bestOrder rfl)))))))))))) rfl rfl
  have hS : va_S (gA G) s.heap s.heap [] := va_S.rf
  have hend : ∀ (pc : Nat) (H : Heap) (locs : List Loc) (ls : Array Slot), decode cX1_best pc = .ok (.ireturn, 1) → RS G K (ov I [(1, o, out.2.1), (2, o, out.2.2.1), (18, o, out.2.2.2.1), (25, o, out.2.2.2.2.1), (26, o, out.2.2.2.2.2.1), (702, (o + 16), out.2.2.2.2.2.2.1), (703, (o + 16), out.2.2.2.2.2.2.2.1), (704, (o + 16), out.2.2.2.2.2.2.2.2.1), (705, (o + 16), out.2.2.2.2.2.2.2.2.2.1), (714, (o + 16), out.2.2.2.2.2.2.2.2.2.2.1), (715, (o + 16), out.2.2.2.2.2.2.2.2.2.2.2.1), (716, (o + 16), out.2.2.2.2.2.2.2.2.2.2.2.2.1), (717, (o + 16), out.2.2.2.2.2.2.2.2.2.2.2.2.2.1), (718, (o + 16), out.2.2.2.2.2.2.2.2.2.2.2.2.2.2.1)]) J (ov X [(701, (o + 16), out.2.2.2.2.2.2.2.2.2.2.2.2.2.2.2.1)]) (ova A [((o + 1), a_tape), ((o + 17), out.2.2.2.2.2.2.2.2.2.2.2.2.2.2.2.2.1), ((o + 18), out.2.2.2.2.2.2.2.2.2.2.2.2.2.2.2.2.2.1), ((o + 19), out.2.2.2.2.2.2.2.2.2.2.2.2.2.2.2.2.2.2.1), ((o + 20), out.2.2.2.2.2.2.2.2.2.2.2.2.2.2.2.2.2.2.2.1), ((o + 21), out.2.2.2.2.2.2.2.2.2.2.2.2.2.2.2.2.2.2.2.2.1), ((o + 22), out.2.2.2.2.2.2.2.2.2.2.2.2.2.2.2.2.2.2.2.2.2.1), ((o + 23), out.2.2.2.2.2.2.2.2.2.2.2.2.2.2.2.2.2.2.2.2.2.2.1), ((o + 70), out.2.2.2.2.2.2.2.2.2.2.2.2.2.2.2.2.2.2.2.2.2.2.2.1), ((o + 73), out.2.2.2.2.2.2.2.2.2.2.2.2.2.2.2.2.2.2.2.2.2.2.2.2.1), ((o + 74), out.2.2.2.2.2.2.2.2.2.2.2.2.2.2.2.2.2.2.2.2.2.2.2.2.2)]) B Q H → va_S (gA G) s.heap H locs → W p l e ({ frames := 13, cells := 0, slots := 0, locals := 305 } : Room) s m ([.ref o] : List Value).toArray below meth c H locs 0 0 (MQ below (gQ G (some (.int out.1)) K (ov I [(1, o, out.2.1), (2, o, out.2.2.1), (18, o, out.2.2.2.1), (25, o, out.2.2.2.2.1), (26, o, out.2.2.2.2.2.1), (702, (o + 16), out.2.2.2.2.2.2.1), (703, (o + 16), out.2.2.2.2.2.2.2.1), (704, (o + 16), out.2.2.2.2.2.2.2.2.1), (705, (o + 16), out.2.2.2.2.2.2.2.2.2.1), (714, (o + 16), out.2.2.2.2.2.2.2.2.2.2.1), (715, (o + 16), out.2.2.2.2.2.2.2.2.2.2.2.1), (716, (o + 16), out.2.2.2.2.2.2.2.2.2.2.2.2.1), (717, (o + 16), out.2.2.2.2.2.2.2.2.2.2.2.2.2.1), (718, (o + 16), out.2.2.2.2.2.2.2.2.2.2.2.2.2.2.1)]) J (ov X [(701, (o + 16), out.2.2.2.2.2.2.2.2.2.2.2.2.2.2.2.1)]) (ova A [((o + 1), a_tape), ((o + 17), out.2.2.2.2.2.2.2.2.2.2.2.2.2.2.2.2.1), ((o + 18), out.2.2.2.2.2.2.2.2.2.2.2.2.2.2.2.2.2.1), ((o + 19), out.2.2.2.2.2.2.2.2.2.2.2.2.2.2.2.2.2.2.1), ((o + 20), out.2.2.2.2.2.2.2.2.2.2.2.2.2.2.2.2.2.2.2.1), ((o + 21), out.2.2.2.2.2.2.2.2.2.2.2.2.2.2.2.2.2.2.2.2.1), ((o + 22), out.2.2.2.2.2.2.2.2.2.2.2.2.2.2.2.2.2.2.2.2.2.1), ((o + 23), out.2.2.2.2.2.2.2.2.2.2.2.2.2.2.2.2.2.2.2.2.2.2.1), ((o + 70), out.2.2.2.2.2.2.2.2.2.2.2.2.2.2.2.2.2.2.2.2.2.2.2.1), ((o + 73), out.2.2.2.2.2.2.2.2.2.2.2.2.2.2.2.2.2.2.2.2.2.2.2.2.1), ((o + 74), out.2.2.2.2.2.2.2.2.2.2.2.2.2.2.2.2.2.2.2.2.2.2.2.2.2)]) B Q) ([.ref o] : List Value).toArray s 0 0 (gA G)) (F0 m pc ls [.int out.1]) := fun pc H locs ls hd hR hS => g_iret hx hb hr hlocks hG hR hS rfl hd
  generalize MQ below (gQ G (some (.int out.1)) K (ov I [(1, o, out.2.1), (2, o, out.2.2.1), (18, o, out.2.2.2.1), (25, o, out.2.2.2.2.1), (26, o, out.2.2.2.2.2.1), (702, (o + 16), out.2.2.2.2.2.2.1), (703, (o + 16), out.2.2.2.2.2.2.2.1), (704, (o + 16), out.2.2.2.2.2.2.2.2.1), (705, (o + 16), out.2.2.2.2.2.2.2.2.2.1), (714, (o + 16), out.2.2.2.2.2.2.2.2.2.2.1), (715, (o + 16), out.2.2.2.2.2.2.2.2.2.2.2.1), (716, (o + 16), out.2.2.2.2.2.2.2.2.2.2.2.2.1), (717, (o + 16), out.2.2.2.2.2.2.2.2.2.2.2.2.2.1), (718, (o + 16), out.2.2.2.2.2.2.2.2.2.2.2.2.2.2.1)]) J (ov X [(701, (o + 16), out.2.2.2.2.2.2.2.2.2.2.2.2.2.2.2.1)]) (ova A [((o + 1), a_tape), ((o + 17), out.2.2.2.2.2.2.2.2.2.2.2.2.2.2.2.2.1), ((o + 18), out.2.2.2.2.2.2.2.2.2.2.2.2.2.2.2.2.2.1), ((o + 19), out.2.2.2.2.2.2.2.2.2.2.2.2.2.2.2.2.2.2.1), ((o + 20), out.2.2.2.2.2.2.2.2.2.2.2.2.2.2.2.2.2.2.2.1), ((o + 21), out.2.2.2.2.2.2.2.2.2.2.2.2.2.2.2.2.2.2.2.2.1), ((o + 22), out.2.2.2.2.2.2.2.2.2.2.2.2.2.2.2.2.2.2.2.2.2.1), ((o + 23), out.2.2.2.2.2.2.2.2.2.2.2.2.2.2.2.2.2.2.2.2.2.2.1), ((o + 70), out.2.2.2.2.2.2.2.2.2.2.2.2.2.2.2.2.2.2.2.2.2.2.2.1), ((o + 73), out.2.2.2.2.2.2.2.2.2.2.2.2.2.2.2.2.2.2.2.2.2.2.2.2.1), ((o + 74), out.2.2.2.2.2.2.2.2.2.2.2.2.2.2.2.2.2.2.2.2.2.2.2.2.2)]) B Q) ([.ref o] : List Value).toArray s 0 0 (gA G) = Z at hend ⊢
  generalize ([.ref o] : List Value).toArray = args at hts hend ⊢
  unfold f1_best at hf
  refine lv_aload_n hx hb dX1_best_0 rfl (lv_at hl 0 rfl) ?_
  obtain ⟨rr1, hrr1, hf⟩ := bind_s hf
  refine g0_cVv (rm := (0, 0)) (As := []) (rest := []) ⟨hx, hb, hml, hown, hts⟩ hG hR hS (m1_taken l G K (ov I [(1, o, i_length), (2, o, i_size), (18, o, i_askedMany), (25, o, i_bestMany), (26, o, i_bestPeriod), (702, (o + 16), i_o16_many), (703, (o + 16), i_o16_water), (704, (o + 16), i_o16_thrown), (705, (o + 16), i_o16_tick), (714, (o + 16), i_o16_empties), (715, (o + 16), i_o16_backFirst), (716, (o + 16), i_o16_backMany), (717, (o + 16), i_o16_drawn), (718, (o + 16), i_o16_spilt)]) J (ov X [(701, (o + 16), x0_o16_yard)]) (ova A [((o + 1), a_tape), ((o + 17), a_o16_men), ((o + 18), a_o16_done), ((o + 19), a_o16_busy), ((o + 20), a_o16_litres), ((o + 21), a_o16_stands), ((o + 22), a_o16_first), ((o + 23), a_o16_heaps), ((o + 70), a_asked), ((o + 73), a_order), ((o + 74), a_bestOrder)]) B Q o (Sh.ov rfl sh_o) i_length i_size (ov_get 0 rfl rfl) (ov_get 1 rfl rfl) rr1 hrr1) (cwV 0 hts gi_X1_228 rfl rfl rfl hd_X1_taken ⟨Nat.le_of_ble_eq_true rfl, Nat.le_of_ble_eq_true rfl⟩) sh_o.1 rfl rfl hl.1 (Nat.le_of_ble_eq_true rfl) dX1_best_1 ⟨Nat.le_refl _, Nat.le_refl _⟩ rfl (fun H locs hR hS => ?_)
  have hR : RS G K (ov I [(1, o, rr1.1), (2, o, rr1.2), (18, o, i_askedMany), (25, o, i_bestMany), (26, o, i_bestPeriod), (702, (o + 16), i_o16_many), (703, (o + 16), i_o16_water), (704, (o + 16), i_o16_thrown), (705, (o + 16), i_o16_tick), (714, (o + 16), i_o16_empties), (715, (o + 16), i_o16_backFirst), (716, (o + 16), i_o16_backMany), (717, (o + 16), i_o16_drawn), (718, (o + 16), i_o16_spilt)]) J (ov X [(701, (o + 16), x0_o16_yard)]) (ova A [((o + 1), a_tape), ((o + 17), a_o16_men), ((o + 18), a_o16_done), ((o + 19), a_o16_busy), ((o + 20), a_o16_litres), ((o + 21), a_o16_stands), ((o + 22), a_o16_first), ((o + 23), a_o16_heaps), ((o + 70), a_asked), ((o + 73), a_order), ((o + 74), a_bestOrder)]) B Q H := hR.to (ov_merge (l := [(1, o, i_length), (2, o, i_size), (18, o, i_askedMany), (25, o, i_bestMany), (26, o, i_bestPeriod), (702, (o + 16), i_o16_many), (703, (o + 16), i_o16_water), (704, (o + 16), i_o16_thrown), (705, (o + 16), i_o16_tick), (714, (o + 16), i_o16_empties), (715, (o + 16), i_o16_backFirst), (716, (o + 16), i_o16_backMany), (717, (o + 16), i_o16_drawn), (718, (o + 16), i_o16_spilt)]) rfl [0, 1] [(1, o, rr1.1), (2, o, rr1.2)] rfl rfl) rfl rfl rfl rfl rfl
  refine lv_aload_n hx hb dX1_best_4 rfl (lv_at hl 0 rfl) ?_
  refine lv_iconst (v := 2) hx hb dX1_best_5 li_2 ?_
  refine lv_bipush (v := 7) hx hb dX1_best_6 lb_7 ?_
  refine lv_aload_n hx hb dX1_best_8 rfl (lv_at hl 0 rfl) ?_
  refine n_geti (v := rr1.2) hx hb hts hown hG hR gFi_X1_222_0 sh_o.1 (ov_get 1 rfl rfl) dX1_best_9 ?_
  obtain ⟨rr2, hrr2, hf⟩ := bind_s hf
  refine g0_cV (rm := (2, 43)) (As := [.int (2 : Int32), .int (7 : Int32), .int rr1.2]) (rest := []) ⟨hx, hb, hml, hown, hts⟩ hG hR hS (m1_areAsked l G K (ov I [(1, o, rr1.1), (2, o, rr1.2), (18, o, i_askedMany), (25, o, i_bestMany), (26, o, i_bestPeriod), (702, (o + 16), i_o16_many), (703, (o + 16), i_o16_water), (704, (o + 16), i_o16_thrown), (705, (o + 16), i_o16_tick), (714, (o + 16), i_o16_empties), (715, (o + 16), i_o16_backFirst), (716, (o + 16), i_o16_backMany), (717, (o + 16), i_o16_drawn), (718, (o + 16), i_o16_spilt)]) J (ov X [(701, (o + 16), x0_o16_yard)]) (ova A [((o + 1), a_tape), ((o + 17), a_o16_men), ((o + 18), a_o16_done), ((o + 19), a_o16_busy), ((o + 20), a_o16_litres), ((o + 21), a_o16_stands), ((o + 22), a_o16_first), ((o + 23), a_o16_heaps), ((o + 70), a_asked), ((o + 73), a_order), ((o + 74), a_bestOrder)]) B Q o y (Sh.ov rfl sh_o) (Sh.ov rfl sh_y) sh_o7 ((congrFun (ov_no rfl) _).trans x_o7_yard) ((congrFun (ov_no rfl) _).trans x_o_now) (2 : Int32) (7 : Int32) rr1.2 i_askedMany i_y_manMany a_tape a_asked (ov_get 2 rfl rfl) ((congrFun (ov_no rfl) _).trans e_i_y_manMany) (ova_get 0 hN_A rfl) (ova_get 8 hN_A rfl) rr2 hrr2) (cwV 3 hts gi_X1_315 rfl rfl rfl hd_X1_areAsked ⟨Nat.le_of_ble_eq_true rfl, Nat.le_of_ble_eq_true rfl⟩) sh_o.1 rfl rfl hl.1 (Nat.le_of_ble_eq_true rfl) dX1_best_12 ⟨Nat.le_refl _, Nat.le_refl _⟩ rfl (fun H locs hR hS => ?_)
  have hR : RS G K (ov I [(1, o, rr1.1), (2, o, rr1.2), (18, o, rr2.2.1), (25, o, i_bestMany), (26, o, i_bestPeriod), (702, (o + 16), i_o16_many), (703, (o + 16), i_o16_water), (704, (o + 16), i_o16_thrown), (705, (o + 16), i_o16_tick), (714, (o + 16), i_o16_empties), (715, (o + 16), i_o16_backFirst), (716, (o + 16), i_o16_backMany), (717, (o + 16), i_o16_drawn), (718, (o + 16), i_o16_spilt)]) J (ov X [(701, (o + 16), x0_o16_yard)]) (ova A [((o + 1), a_tape), ((o + 17), a_o16_men), ((o + 18), a_o16_done), ((o + 19), a_o16_busy), ((o + 20), a_o16_litres), ((o + 21), a_o16_stands), ((o + 22), a_o16_first), ((o + 23), a_o16_heaps), ((o + 70), rr2.2.2), ((o + 73), a_order), ((o + 74), a_bestOrder)]) B Q H := hR.to (ov_merge (l := [(1, o, rr1.1), (2, o, rr1.2), (18, o, i_askedMany), (25, o, i_bestMany), (26, o, i_bestPeriod), (702, (o + 16), i_o16_many), (703, (o + 16), i_o16_water), (704, (o + 16), i_o16_thrown), (705, (o + 16), i_o16_tick), (714, (o + 16), i_o16_empties), (715, (o + 16), i_o16_backFirst), (716, (o + 16), i_o16_backMany), (717, (o + 16), i_o16_drawn), (718, (o + 16), i_o16_spilt)]) rfl [2] [(18, o, rr2.2.1)] rfl rfl) rfl rfl (ova_merge (l := [((o + 1), a_tape), ((o + 17), a_o16_men), ((o + 18), a_o16_done), ((o + 19), a_o16_busy), ((o + 20), a_o16_litres), ((o + 21), a_o16_stands), ((o + 22), a_o16_first), ((o + 23), a_o16_heaps), ((o + 70), a_asked), ((o + 73), a_order), ((o + 74), a_bestOrder)]) hN_A [0, 8] [((o + 1), a_tape), ((o + 70), rr2.2.2)] rfl rfl) rfl rfl
  refine lv_if_ne (tgt := 20) hx hb dX1_best_15 (by decide) (fun c3 => ?_) (fun c3 => ?_)
  · have hf := ite_f c3 hf
    refine lv_iconst (v := 1) hx hb dX1_best_20 li_1 ?_
    refine lv_istore_n (lv' := [(1, .int (1 : Int32)), (0, .ref o)]) hx hb dX1_best_21 rfl hl (by decide) rfl (fun ls hl => ?_)
    obtain ⟨rl4, hw4, hfo4⟩ := bind_s hf
    have hx4_0 : ∀ (x4_0 : (Nat → Int32)), f1_best_e4_0 i_y_way i_y_pails i_y_draw i_y_thrown i_o16_many i_o16_water i_o16_thrown i_o16_tick i_o16_empties i_o16_backFirst i_o16_backMany i_o16_drawn i_o16_spilt x0_o16_yard a_o16_men a_o16_done a_o16_busy a_o16_litres a_o16_stands a_o16_first a_o16_heaps a_order a_bestOrder q_y_men mi_hand y rr1 rr2 x4_0 = some out → ∀ (H : Heap) (locs : List Loc) (ls : Array Slot), RS G K (ov I [(1, o, rr1.1), (2, o, rr1.2), (18, o, rr2.2.1), (25, o, i_bestMany), (26, o, i_bestPeriod), (702, (o + 16), i_o16_many), (703, (o + 16), i_o16_water), (704, (o + 16), i_o16_thrown), (705, (o + 16), i_o16_tick), (714, (o + 16), i_o16_empties), (715, (o + 16), i_o16_backFirst), (716, (o + 16), i_o16_backMany), (717, (o + 16), i_o16_drawn), (718, (o + 16), i_o16_spilt)]) J (ov X [(701, (o + 16), x0_o16_yard)]) (ova A [((o + 1), a_tape), ((o + 17), a_o16_men), ((o + 18), a_o16_done), ((o + 19), a_o16_busy), ((o + 20), a_o16_litres), ((o + 21), a_o16_stands), ((o + 22), a_o16_first), ((o + 23), a_o16_heaps), ((o + 70), x4_0), ((o + 73), a_order), ((o + 74), a_bestOrder)]) B Q H → va_S (gA G) s.heap H locs → lv_has ls 4 [(0, .ref o)] → W p l e ({ frames := 13, cells := 0, slots := 0, locals := 305 } : Room) s m args below meth c H locs 0 0 Z (F0 m 88 ls []) := by
      intro x4_0 hf H locs ls hR hS hl
      unfold f1_best_e4_0 at hf
      refine lv_aload_n hx hb dX1_best_88 rfl (lv_at hl 0 rfl) ?_
      refine lv_ldcw hx hb hown (hts _ q1231) dX1_best_89 ?_
      refine n_puti (li' := [(1, o, rr1.1), (2, o, rr1.2), (18, o, rr2.2.1), (25, o, i_bestMany), (26, o, (1000000000 : Int32)), (702, (o + 16), i_o16_many), (703, (o + 16), i_o16_water), (704, (o + 16), i_o16_thrown), (705, (o + 16), i_o16_tick), (714, (o + 16), i_o16_empties), (715, (o + 16), i_o16_backFirst), (716, (o + 16), i_o16_backMany), (717, (o + 16), i_o16_drawn), (718, (o + 16), i_o16_spilt)]) hx hb hts hown hG hR hS gPi_X1_369_0 sh_o.1 4 rfl rfl rfl dX1_best_92 (fun H locs hR hS => ?_)
      refine lv_aload_n hx hb dX1_best_95 rfl (lv_at hl 0 rfl) ?_
      refine lv_iconst (v := 0) hx hb dX1_best_96 li_0 ?_
      refine lv_iconst (v := 0) hx hb dX1_best_97 li_0 ?_
      obtain ⟨rr5, hrr5, hf⟩ := bind_s hf
      refine g0_cVv (rm := (12, 282)) (As := [.int (0 : Int32), .int (0 : Int32)]) (rest := []) ⟨hx, hb, hml, hown, hts⟩ hG hR hS (m1_orders l 9 G K (ov I [(1, o, rr1.1), (2, o, rr1.2), (18, o, rr2.2.1), (25, o, i_bestMany), (26, o, (1000000000 : Int32)), (702, (o + 16), i_o16_many), (703, (o + 16), i_o16_water), (704, (o + 16), i_o16_thrown), (705, (o + 16), i_o16_tick), (714, (o + 16), i_o16_empties), (715, (o + 16), i_o16_backFirst), (716, (o + 16), i_o16_backMany), (717, (o + 16), i_o16_drawn), (718, (o + 16), i_o16_spilt)]) J (ov X [(701, (o + 16), x0_o16_yard)]) (ova A [((o + 1), a_tape), ((o + 17), a_o16_men), ((o + 18), a_o16_done), ((o + 19), a_o16_busy), ((o + 20), a_o16_litres), ((o + 21), a_o16_stands), ((o + 22), a_o16_first), ((o + 23), a_o16_heaps), ((o + 70), x4_0), ((o + 73), a_order), ((o + 74), a_bestOrder)]) B Q o y (Sh.ov rfl sh_o) (Sh.ov rfl sh_y) (Sh.ov rfl sh_o16) sh_o7 ((congrFun (ov_no rfl) _).trans x_o7_yard) ((congrFun (ov_no rfl) _).trans x_o_row) ((congrFun (ov_no rfl) _).trans x_o_now) (0 : Int32) (0 : Int32) rr2.2.1 (1000000000 : Int32) i_y_way i_y_pails i_y_draw i_y_thrown i_o16_many i_o16_water i_o16_thrown i_o16_tick i_o16_empties i_o16_backFirst i_o16_backMany i_o16_drawn i_o16_spilt x0_o16_yard a_o16_men a_o16_done a_o16_busy a_o16_litres a_o16_stands a_o16_first a_o16_heaps x4_0 a_order a_bestOrder q_y_men mi_hand (ov_get 2 rfl rfl) (ov_get 4 rfl rfl) ((congrFun (ov_no rfl) _).trans e_i_y_way) ((congrFun (ov_no rfl) _).trans e_i_y_pails) ((congrFun (ov_no rfl) _).trans e_i_y_draw) ((congrFun (ov_no rfl) _).trans e_i_y_thrown) (ov_get 5 rfl rfl) (ov_get 6 rfl rfl) (ov_get 7 rfl rfl) (ov_get 8 rfl rfl) (ov_get 9 rfl rfl) (ov_get 10 rfl rfl) (ov_get 11 rfl rfl) (ov_get 12 rfl rfl) (ov_get 13 rfl rfl) (ov_get 0 rfl rfl) (ova_get 1 hN_A rfl) (ova_get 2 hN_A rfl) (ova_get 3 hN_A rfl) (ova_get 4 hN_A rfl) (ova_get 5 hN_A rfl) (ova_get 6 hN_A rfl) (ova_get 7 hN_A rfl) (ova_get 8 hN_A rfl) (ova_get 9 hN_A rfl) (ova_get 10 hN_A rfl) e_q_y_men ((ov_no rfl).trans e_mi_hand) hman rr5 hrr5) (cwV 2 hts gi_X1_372 rfl rfl rfl hd_X1_orders ⟨Nat.le_of_ble_eq_true rfl, Nat.le_of_ble_eq_true rfl⟩) sh_o.1 rfl rfl hl.1 (Nat.le_of_ble_eq_true rfl) dX1_best_98 ⟨Nat.le_refl _, Nat.le_refl _⟩ rfl (fun H locs hR hS => ?_)
      have hR : RS G K (ov I [(1, o, rr1.1), (2, o, rr1.2), (18, o, rr2.2.1), (25, o, i_bestMany), (26, o, rr5.1), (702, (o + 16), rr5.2.1), (703, (o + 16), rr5.2.2.1), (704, (o + 16), rr5.2.2.2.1), (705, (o + 16), rr5.2.2.2.2.1), (714, (o + 16), rr5.2.2.2.2.2.1), (715, (o + 16), rr5.2.2.2.2.2.2.1), (716, (o + 16), rr5.2.2.2.2.2.2.2.1), (717, (o + 16), rr5.2.2.2.2.2.2.2.2.1), (718, (o + 16), rr5.2.2.2.2.2.2.2.2.2.1)]) J (ov X [(701, (o + 16), rr5.2.2.2.2.2.2.2.2.2.2.1)]) (ova A [((o + 1), a_tape), ((o + 17), rr5.2.2.2.2.2.2.2.2.2.2.2.1), ((o + 18), rr5.2.2.2.2.2.2.2.2.2.2.2.2.1), ((o + 19), rr5.2.2.2.2.2.2.2.2.2.2.2.2.2.1), ((o + 20), rr5.2.2.2.2.2.2.2.2.2.2.2.2.2.2.1), ((o + 21), rr5.2.2.2.2.2.2.2.2.2.2.2.2.2.2.2.1), ((o + 22), rr5.2.2.2.2.2.2.2.2.2.2.2.2.2.2.2.2.1), ((o + 23), rr5.2.2.2.2.2.2.2.2.2.2.2.2.2.2.2.2.2.1), ((o + 70), x4_0), ((o + 73), rr5.2.2.2.2.2.2.2.2.2.2.2.2.2.2.2.2.2.2.1), ((o + 74), rr5.2.2.2.2.2.2.2.2.2.2.2.2.2.2.2.2.2.2.2)]) B Q H := hR.to (ov_mix (l := [(1, o, rr1.1), (2, o, rr1.2), (18, o, rr2.2.1), (25, o, i_bestMany), (26, o, (1000000000 : Int32)), (702, (o + 16), i_o16_many), (703, (o + 16), i_o16_water), (704, (o + 16), i_o16_thrown), (705, (o + 16), i_o16_tick), (714, (o + 16), i_o16_empties), (715, (o + 16), i_o16_backFirst), (716, (o + 16), i_o16_backMany), (717, (o + 16), i_o16_drawn), (718, (o + 16), i_o16_spilt)]) (l1 := [(1, o, rr1.1), (2, o, rr1.2), (18, o, rr2.2.1), (25, o, i_bestMany), (26, o, rr5.1), (702, (o + 16), rr5.2.1), (703, (o + 16), rr5.2.2.1), (704, (o + 16), rr5.2.2.2.1), (705, (o + 16), rr5.2.2.2.2.1), (714, (o + 16), rr5.2.2.2.2.2.1), (715, (o + 16), rr5.2.2.2.2.2.2.1), (716, (o + 16), rr5.2.2.2.2.2.2.2.1), (717, (o + 16), rr5.2.2.2.2.2.2.2.2.1), (718, (o + 16), rr5.2.2.2.2.2.2.2.2.2.1)]) (es := [(26, o, rr5.1), (702, (o + 16), rr5.2.1), (703, (o + 16), rr5.2.2.1), (704, (o + 16), rr5.2.2.2.1), (705, (o + 16), rr5.2.2.2.2.1), (714, (o + 16), rr5.2.2.2.2.2.1), (715, (o + 16), rr5.2.2.2.2.2.2.1), (716, (o + 16), rr5.2.2.2.2.2.2.2.1), (717, (o + 16), rr5.2.2.2.2.2.2.2.2.1), (718, (o + 16), rr5.2.2.2.2.2.2.2.2.2.1)]) (nd_key rfl) rfl [4, 5, 6, 7, 8, 9, 10, 11, 12, 13] [0, 1, 2, 3] 14 rfl (by decide) rfl rfl) rfl (ov_merge (l := [(701, (o + 16), x0_o16_yard)]) rfl [0] [(701, (o + 16), rr5.2.2.2.2.2.2.2.2.2.2.1)] rfl rfl) (ova_mix (l := [((o + 1), a_tape), ((o + 17), a_o16_men), ((o + 18), a_o16_done), ((o + 19), a_o16_busy), ((o + 20), a_o16_litres), ((o + 21), a_o16_stands), ((o + 22), a_o16_first), ((o + 23), a_o16_heaps), ((o + 70), x4_0), ((o + 73), a_order), ((o + 74), a_bestOrder)]) (l1 := [((o + 1), a_tape), ((o + 17), rr5.2.2.2.2.2.2.2.2.2.2.2.1), ((o + 18), rr5.2.2.2.2.2.2.2.2.2.2.2.2.1), ((o + 19), rr5.2.2.2.2.2.2.2.2.2.2.2.2.2.1), ((o + 20), rr5.2.2.2.2.2.2.2.2.2.2.2.2.2.2.1), ((o + 21), rr5.2.2.2.2.2.2.2.2.2.2.2.2.2.2.2.1), ((o + 22), rr5.2.2.2.2.2.2.2.2.2.2.2.2.2.2.2.2.1), ((o + 23), rr5.2.2.2.2.2.2.2.2.2.2.2.2.2.2.2.2.2.1), ((o + 70), x4_0), ((o + 73), rr5.2.2.2.2.2.2.2.2.2.2.2.2.2.2.2.2.2.2.1), ((o + 74), rr5.2.2.2.2.2.2.2.2.2.2.2.2.2.2.2.2.2.2.2)]) (es := [((o + 17), rr5.2.2.2.2.2.2.2.2.2.2.2.1), ((o + 18), rr5.2.2.2.2.2.2.2.2.2.2.2.2.1), ((o + 19), rr5.2.2.2.2.2.2.2.2.2.2.2.2.2.1), ((o + 20), rr5.2.2.2.2.2.2.2.2.2.2.2.2.2.2.1), ((o + 21), rr5.2.2.2.2.2.2.2.2.2.2.2.2.2.2.2.1), ((o + 22), rr5.2.2.2.2.2.2.2.2.2.2.2.2.2.2.2.2.1), ((o + 23), rr5.2.2.2.2.2.2.2.2.2.2.2.2.2.2.2.2.2.1), ((o + 70), x4_0), ((o + 73), rr5.2.2.2.2.2.2.2.2.2.2.2.2.2.2.2.2.2.2.1), ((o + 74), rr5.2.2.2.2.2.2.2.2.2.2.2.2.2.2.2.2.2.2.2)]) hN_A rfl [1, 2, 3, 4, 5, 6, 7, 8, 9, 10] [0] 11 rfl (by decide) rfl rfl) rfl rfl
      refine lv_aload_n hx hb dX1_best_101 rfl (lv_at hl 0 rfl) ?_
      refine lv_aload_n hx hb dX1_best_102 rfl (lv_at hl 0 rfl) ?_
      refine n_geti (v := rr2.2.1) hx hb hts hown hG hR gFi_X1_308_0 sh_o.1 (ov_get 2 rfl rfl) dX1_best_103 ?_
      refine n_puti (li' := [(1, o, rr1.1), (2, o, rr1.2), (18, o, rr2.2.1), (25, o, rr2.2.1), (26, o, rr5.1), (702, (o + 16), rr5.2.1), (703, (o + 16), rr5.2.2.1), (704, (o + 16), rr5.2.2.2.1), (705, (o + 16), rr5.2.2.2.2.1), (714, (o + 16), rr5.2.2.2.2.2.1), (715, (o + 16), rr5.2.2.2.2.2.2.1), (716, (o + 16), rr5.2.2.2.2.2.2.2.1), (717, (o + 16), rr5.2.2.2.2.2.2.2.2.1), (718, (o + 16), rr5.2.2.2.2.2.2.2.2.2.1)]) hx hb hts hown hG hR hS gPi_X1_376_0 sh_o.1 3 rfl rfl rfl dX1_best_106 (fun H locs hR hS => ?_)
      refine lv_aload_n hx hb dX1_best_109 rfl (lv_at hl 0 rfl) ?_
      refine n_geti (v := rr5.1) hx hb hts hown hG hR gFi_X1_369_0 sh_o.1 (ov_get 4 rfl rfl) dX1_best_110 ?_
      obtain rfl := some_i hf
      exact hend _ _ _ _ dX1_best_113 hR hS
    refine whl_walk (P := fun (s4 : Int32 × (Nat → Int32)) => ∀ (H : Heap) (locs : List Loc) (ls : Array Slot), RS G K (ov I [(1, o, rr1.1), (2, o, rr1.2), (18, o, rr2.2.1), (25, o, i_bestMany), (26, o, i_bestPeriod), (702, (o + 16), i_o16_many), (703, (o + 16), i_o16_water), (704, (o + 16), i_o16_thrown), (705, (o + 16), i_o16_tick), (714, (o + 16), i_o16_empties), (715, (o + 16), i_o16_backFirst), (716, (o + 16), i_o16_backMany), (717, (o + 16), i_o16_drawn), (718, (o + 16), i_o16_spilt)]) J (ov X [(701, (o + 16), x0_o16_yard)]) (ova A [((o + 1), a_tape), ((o + 17), a_o16_men), ((o + 18), a_o16_done), ((o + 19), a_o16_busy), ((o + 20), a_o16_litres), ((o + 21), a_o16_stands), ((o + 22), a_o16_first), ((o + 23), a_o16_heaps), ((o + 70), s4.2), ((o + 73), a_order), ((o + 74), a_bestOrder)]) B Q H → va_S (gA G) s.heap H locs → lv_has ls 4 [(0, .ref o), (1, .int s4.1)] → W p l e ({ frames := 13, cells := 0, slots := 0, locals := 305 } : Room) s m args below meth c H locs 0 0 Z (F0 m 22 ls [])) (r := rl4) ?_ FU _ hw4 _ _ _ hR hS (lv_sub hl [1, 0] rfl)
    clear hR hS hl hf
    intro s4 o4 hf hk4 H locs ls hR hS hl
    obtain ⟨w4_1, w4_a_asked⟩ := s4
    have hf : f1_best_s4 rr2 w4_1 w4_a_asked = some o4 := hf
    have hR : RS G K (ov I [(1, o, rr1.1), (2, o, rr1.2), (18, o, rr2.2.1), (25, o, i_bestMany), (26, o, i_bestPeriod), (702, (o + 16), i_o16_many), (703, (o + 16), i_o16_water), (704, (o + 16), i_o16_thrown), (705, (o + 16), i_o16_tick), (714, (o + 16), i_o16_empties), (715, (o + 16), i_o16_backFirst), (716, (o + 16), i_o16_backMany), (717, (o + 16), i_o16_drawn), (718, (o + 16), i_o16_spilt)]) J (ov X [(701, (o + 16), x0_o16_yard)]) (ova A [((o + 1), a_tape), ((o + 17), a_o16_men), ((o + 18), a_o16_done), ((o + 19), a_o16_busy), ((o + 20), a_o16_litres), ((o + 21), a_o16_stands), ((o + 22), a_o16_first), ((o + 23), a_o16_heaps), ((o + 70), w4_a_asked), ((o + 73), a_order), ((o + 74), a_bestOrder)]) B Q H := hR
    have hl : lv_has ls 4 [(0, .ref o), (1, .int w4_1)] := hl
    unfold f1_best_s4 at hf
    refine lv_iload_n hx hb dX1_best_22 rfl (lv_at hl 1 rfl) ?_
    refine lv_aload_n hx hb dX1_best_23 rfl (lv_at hl 0 rfl) ?_
    refine n_geti (v := rr2.2.1) hx hb hts hown hG hR gFi_X1_308_0 sh_o.1 (ov_get 2 rfl rfl) dX1_best_24 ?_
    refine lv_icmp_ge (tgt := 88) hx hb dX1_best_27 (by decide) (fun c6 => ?_) (fun c6 => ?_)
    · have hf := ite_t c6 hf
      obtain rfl := some_i hf
      replace hk4 : _ = rl4 := hk4
      subst hk4
      exact hx4_0 w4_a_asked hfo4 _ _ _ hR hS (lv_sub hl [0] rfl)
    · have hf := ite_f c6 hf
      refine lv_aload_n hx hb dX1_best_30 rfl (lv_at hl 0 rfl) ?_
      refine g_getr (b := (o + 70)) hx hb hts hown hG hR gFx_X1_135_0 sh_o.1 ((congrFun (ov_no rfl) _).trans ((sh_o.2 5 _ rfl).2)) dX1_best_31 ?_
      refine lv_iload_n hx hb dX1_best_34 rfl (lv_at hl 1 rfl) ?_
      obtain ⟨c7, hf⟩ := gd_some hf
      obtain ⟨v8, ev8, hf⟩ := lt_some hf
      refine n_iald (x := w4_a_asked) hx hb hG hR k_a_asked c7 (ova_get 8 hN_A rfl) ev8 dX1_best_35 ?_
      refine lv_istore_n (lv' := [(2, .int v8), (0, .ref o), (1, .int w4_1)]) hx hb dX1_best_36 rfl hl (by decide) rfl (fun ls hl => ?_)
      refine lv_iload_n hx hb dX1_best_37 rfl (lv_at hl 2 rfl) ?_
      refine lv_istore_n (lv' := [(3, .int w4_1), (2, .int v8), (0, .ref o), (1, .int w4_1)]) hx hb dX1_best_38 rfl hl (by decide) rfl (fun ls hl => ?_)
      obtain ⟨rl9, hw9, hfo9⟩ := bind_s hf
      have hx9_0 : ∀ (x9_0 : Int32 × (Nat → Int32)), f1_best_e9_0 w4_1 v8 x9_0 = some o4 → ∀ (H : Heap) (locs : List Loc) (ls : Array Slot), RS G K (ov I [(1, o, rr1.1), (2, o, rr1.2), (18, o, rr2.2.1), (25, o, i_bestMany), (26, o, i_bestPeriod), (702, (o + 16), i_o16_many), (703, (o + 16), i_o16_water), (704, (o + 16), i_o16_thrown), (705, (o + 16), i_o16_tick), (714, (o + 16), i_o16_empties), (715, (o + 16), i_o16_backFirst), (716, (o + 16), i_o16_backMany), (717, (o + 16), i_o16_drawn), (718, (o + 16), i_o16_spilt)]) J (ov X [(701, (o + 16), x0_o16_yard)]) (ova A [((o + 1), a_tape), ((o + 17), a_o16_men), ((o + 18), a_o16_done), ((o + 19), a_o16_busy), ((o + 20), a_o16_litres), ((o + 21), a_o16_stands), ((o + 22), a_o16_first), ((o + 23), a_o16_heaps), ((o + 70), x9_0.2), ((o + 73), a_order), ((o + 74), a_bestOrder)]) B Q H → va_S (gA G) s.heap H locs → lv_has ls 4 [(0, .ref o), (1, .int w4_1), (2, .int v8), (3, .int x9_0.1)] → W p l e ({ frames := 13, cells := 0, slots := 0, locals := 305 } : Room) s m args below meth c H locs 0 0 Z (F0 m 75 ls []) := by
        intro x9_0 hf H locs ls hR hS hl
        unfold f1_best_e9_0 at hf
        refine lv_aload_n hx hb dX1_best_75 rfl (lv_at hl 0 rfl) ?_
        refine g_getr (b := (o + 70)) hx hb hts hown hG hR gFx_X1_135_0 sh_o.1 ((congrFun (ov_no rfl) _).trans ((sh_o.2 5 _ rfl).2)) dX1_best_76 ?_
        refine lv_iload_n hx hb dX1_best_79 rfl (lv_at hl 3 rfl) ?_
        refine lv_iload_n hx hb dX1_best_80 rfl (lv_at hl 2 rfl) ?_
        obtain ⟨c10, hf⟩ := gd_some hf
        obtain ⟨u11, eu11, hf⟩ := lt_some hf
        refine n_iast (la' := [((o + 1), a_tape), ((o + 17), a_o16_men), ((o + 18), a_o16_done), ((o + 19), a_o16_busy), ((o + 20), a_o16_litres), ((o + 21), a_o16_stands), ((o + 22), a_o16_first), ((o + 23), a_o16_heaps), ((o + 70), u11), ((o + 73), a_order), ((o + 74), a_bestOrder)]) hx hb hG hR hS k_a_asked c10 hN_A 8 rfl eu11 rfl dX1_best_81 (fun H locs hR hS => ?_)
        obtain ⟨v12, ev12, hf⟩ := lt_some hf
        refine lv_iinc (k := 1) (v := v12) (lv' := [(1, .int v12), (0, .ref o), (2, .int v8), (3, .int x9_0.1)]) hx hb dX1_best_82 hl rfl (by rw [ev12]; rfl) (by decide) rfl (fun ls hl => ?_)
        refine lv_goto (tgt := 22) hx hb dX1_best_85 (by decide) ?_
        obtain rfl := some_i hf
        exact hk4 _ _ _ hR hS (lv_sub hl [1, 0] rfl)
      refine whl_walk (P := fun (s9 : Int32 × (Nat → Int32)) => ∀ (H : Heap) (locs : List Loc) (ls : Array Slot), RS G K (ov I [(1, o, rr1.1), (2, o, rr1.2), (18, o, rr2.2.1), (25, o, i_bestMany), (26, o, i_bestPeriod), (702, (o + 16), i_o16_many), (703, (o + 16), i_o16_water), (704, (o + 16), i_o16_thrown), (705, (o + 16), i_o16_tick), (714, (o + 16), i_o16_empties), (715, (o + 16), i_o16_backFirst), (716, (o + 16), i_o16_backMany), (717, (o + 16), i_o16_drawn), (718, (o + 16), i_o16_spilt)]) J (ov X [(701, (o + 16), x0_o16_yard)]) (ova A [((o + 1), a_tape), ((o + 17), a_o16_men), ((o + 18), a_o16_done), ((o + 19), a_o16_busy), ((o + 20), a_o16_litres), ((o + 21), a_o16_stands), ((o + 22), a_o16_first), ((o + 23), a_o16_heaps), ((o + 70), s9.2), ((o + 73), a_order), ((o + 74), a_bestOrder)]) B Q H → va_S (gA G) s.heap H locs → lv_has ls 4 [(0, .ref o), (1, .int w4_1), (2, .int v8), (3, .int s9.1)] → W p l e ({ frames := 13, cells := 0, slots := 0, locals := 305 } : Room) s m args below meth c H locs 0 0 Z (F0 m 39 ls [])) (r := rl9) ?_ FU _ hw9 _ _ _ hR hS (lv_sub hl [2, 3, 1, 0] rfl)
      clear hR hS hl hf
      intro s9 o9 hf hk9 H locs ls hR hS hl
      obtain ⟨w9_3, w9_a_asked⟩ := s9
      have hf : f1_best_s9 v8 w9_3 w9_a_asked = some o9 := hf
      have hR : RS G K (ov I [(1, o, rr1.1), (2, o, rr1.2), (18, o, rr2.2.1), (25, o, i_bestMany), (26, o, i_bestPeriod), (702, (o + 16), i_o16_many), (703, (o + 16), i_o16_water), (704, (o + 16), i_o16_thrown), (705, (o + 16), i_o16_tick), (714, (o + 16), i_o16_empties), (715, (o + 16), i_o16_backFirst), (716, (o + 16), i_o16_backMany), (717, (o + 16), i_o16_drawn), (718, (o + 16), i_o16_spilt)]) J (ov X [(701, (o + 16), x0_o16_yard)]) (ova A [((o + 1), a_tape), ((o + 17), a_o16_men), ((o + 18), a_o16_done), ((o + 19), a_o16_busy), ((o + 20), a_o16_litres), ((o + 21), a_o16_stands), ((o + 22), a_o16_first), ((o + 23), a_o16_heaps), ((o + 70), w9_a_asked), ((o + 73), a_order), ((o + 74), a_bestOrder)]) B Q H := hR
      have hl : lv_has ls 4 [(0, .ref o), (1, .int w4_1), (2, .int v8), (3, .int w9_3)] := hl
      unfold f1_best_s9 at hf
      refine lv_iload_n hx hb dX1_best_39 rfl (lv_at hl 3 rfl) ?_
      refine lv_if_le (tgt := 75) hx hb dX1_best_40 (by decide) (fun c13 => ?_) (fun c13 => ?_)
      · have hf := ite_t c13 hf
        obtain rfl := some_i hf
        replace hk9 : _ = rl9 := hk9
        subst hk9
        exact hx9_0 (w9_3, w9_a_asked) hfo9 _ _ _ hR hS (lv_sub hl [0, 1, 2, 3] rfl)
      · have hf := ite_f c13 hf
        refine lv_aload_n hx hb dX1_best_43 rfl (lv_at hl 0 rfl) ?_
        refine g_getr (b := (o + 70)) hx hb hts hown hG hR gFx_X1_135_0 sh_o.1 ((congrFun (ov_no rfl) _).trans ((sh_o.2 5 _ rfl).2)) dX1_best_44 ?_
        refine lv_iload_n hx hb dX1_best_47 rfl (lv_at hl 3 rfl) ?_
        refine lv_iconst (v := 1) hx hb dX1_best_48 li_1 ?_
        obtain ⟨v14, ev14, hf⟩ := lt_some hf
        refine n_isub hx hb ev14 dX1_best_49 ?_
        obtain ⟨c15, hf⟩ := gd_some hf
        obtain ⟨v16, ev16, hf⟩ := lt_some hf
        refine n_iald (x := w9_a_asked) hx hb hG hR k_a_asked c15 (ova_get 8 hN_A rfl) ev16 dX1_best_50 ?_
        refine lv_iload_n hx hb dX1_best_51 rfl (lv_at hl 2 rfl) ?_
        refine lv_icmp_le (tgt := 75) hx hb dX1_best_52 (by decide) (fun c17 => ?_) (fun c17 => ?_)
        · have hf := ite_t c17 hf
          obtain rfl := some_i hf
          replace hk9 : _ = rl9 := hk9
          subst hk9
          exact hx9_0 (w9_3, w9_a_asked) hfo9 _ _ _ hR hS (lv_sub hl [0, 1, 2, 3] rfl)
        · have hf := ite_f c17 hf
          refine lv_aload_n hx hb dX1_best_55 rfl (lv_at hl 0 rfl) ?_
          refine g_getr (b := (o + 70)) hx hb hts hown hG hR gFx_X1_135_0 sh_o.1 ((congrFun (ov_no rfl) _).trans ((sh_o.2 5 _ rfl).2)) dX1_best_56 ?_
          refine lv_iload_n hx hb dX1_best_59 rfl (lv_at hl 3 rfl) ?_
          refine lv_aload_n hx hb dX1_best_60 rfl (lv_at hl 0 rfl) ?_
          refine g_getr (b := (o + 70)) hx hb hts hown hG hR gFx_X1_135_0 sh_o.1 ((congrFun (ov_no rfl) _).trans ((sh_o.2 5 _ rfl).2)) dX1_best_61 ?_
          refine lv_iload_n hx hb dX1_best_64 rfl (lv_at hl 3 rfl) ?_
          refine lv_iconst (v := 1) hx hb dX1_best_65 li_1 ?_
          obtain ⟨v18, ev18, hf⟩ := lt_some hf
          refine n_isub hx hb ev18 dX1_best_66 ?_
          obtain ⟨c19, hf⟩ := gd_some hf
          obtain ⟨v20, ev20, hf⟩ := lt_some hf
          refine n_iald (x := w9_a_asked) hx hb hG hR k_a_asked c19 (ova_get 8 hN_A rfl) ev20 dX1_best_67 ?_
          obtain ⟨c21, hf⟩ := gd_some hf
          obtain ⟨u22, eu22, hf⟩ := lt_some hf
          refine n_iast (la' := [((o + 1), a_tape), ((o + 17), a_o16_men), ((o + 18), a_o16_done), ((o + 19), a_o16_busy), ((o + 20), a_o16_litres), ((o + 21), a_o16_stands), ((o + 22), a_o16_first), ((o + 23), a_o16_heaps), ((o + 70), u22), ((o + 73), a_order), ((o + 74), a_bestOrder)]) hx hb hG hR hS k_a_asked c21 hN_A 8 rfl eu22 rfl dX1_best_68 (fun H locs hR hS => ?_)
          obtain ⟨v23, ev23, hf⟩ := lt_some hf
          refine lv_iinc (k := 3) (v := v23) (lv' := [(3, .int v23), (0, .ref o), (1, .int w4_1), (2, .int v8)]) hx hb dX1_best_69 hl rfl (by rw [ev23]; rfl) (by decide) rfl (fun ls hl => ?_)
          refine lv_goto (tgt := 39) hx hb dX1_best_72 (by decide) ?_
          obtain rfl := some_i hf
          exact hk9 _ _ _ hR hS (lv_sub hl [1, 2, 3, 0] rfl)
  · have hf := ite_t c3 hf
    refine lv_iconst (v := -1) hx hb dX1_best_18 li_m1 ?_
    obtain rfl := some_i hf
    exact hend _ _ _ _ dX1_best_19 hR hS
noncomputable def f1_hang_e2_0 (x2_0 : Int32 × (Nat → Int32) × (Nat → Int32)) : Option (Int32 × (Nat → Int32) × (Nat → Int32)) :=
  some x2_0

noncomputable def f1_hang_s2 (q_X1_hang : Int32 → Int32 → Int32 → Int32 → Int32 → (Nat → Int32) → (Nat → Int32) → (Nat → Int32) → Option (Int32 × (Nat → Int32) × (Nat → Int32))) (p1 : Int32) (p3 : Int32) (i_size : Int32) (a_tape : Nat → Int32) (w2_4 : Int32) (w2_i_bestWay : Int32) (w2_a_hooked : Nat → Int32) (w2_a_bestHooks : Nat → Int32) : Option ((Int32 × Int32 × (Nat → Int32) × (Nat → Int32)) ⊕ (Int32 × (Nat → Int32) × (Nat → Int32))) :=
  if i_size ≤ w2_4 then
    some (.inr (w2_i_bestWay, w2_a_hooked, w2_a_bestHooks))
  else
    (f1_one w2_4 a_tape).bind fun rr4 =>
    gd (inb p1 6) <|
    lt (upd w2_a_hooked p1.toNatClampNeg rr4) fun u6 =>
    lt (p1 + (1 : Int32)) fun v7 =>
    lt (w2_4 + (1 : Int32)) fun v8 =>
    (q_X1_hang v7 v8 p3 i_size w2_i_bestWay a_tape u6 w2_a_bestHooks).bind fun rr9 =>
    lt (w2_4 + (1 : Int32)) fun v10 =>
    some (.inl (v10, rr9.1, rr9.2.1, rr9.2.2))

noncomputable def fb1_hang (q_X1_hang : Int32 → Int32 → Int32 → Int32 → Int32 → (Nat → Int32) → (Nat → Int32) → (Nat → Int32) → Option (Int32 × (Nat → Int32) × (Nat → Int32))) (p1 : Int32) (p2 : Int32) (p3 : Int32) (i_size : Int32) (i_bestWay : Int32) (a_tape : Nat → Int32) (a_hooked : Nat → Int32) (a_bestHooks : Nat → Int32) : Option (Int32 × (Nat → Int32) × (Nat → Int32)) :=
  if p1 = p3 then
    (f1_wayBy p3 i_size a_tape a_hooked).bind fun rr11 =>
    if rr11 < i_bestWay then
      gd (cp_ok (0 : Int32) (0 : Int32) p3 6 6) <|
      lt (va_cpy a_hooked a_bestHooks (0 : Int32).toNatClampNeg (0 : Int32).toNatClampNeg p3.toNatClampNeg) fun u14 =>
      some (rr11, a_hooked, u14)
    else
      some (i_bestWay, a_hooked, a_bestHooks)
  else
    (whl (fun (s2 : Int32 × Int32 × (Nat → Int32) × (Nat → Int32)) => f1_hang_s2 q_X1_hang p1 p3 i_size a_tape s2.1 s2.2.1 s2.2.2.1 s2.2.2.2) FU (p2, i_bestWay, a_hooked, a_bestHooks)).bind fun rl2 =>
    f1_hang_e2_0 rl2
noncomputable def fG_X1_hang : Nat → (Int32 → Int32 → Int32 → Int32 → Int32 → (Nat → Int32) → (Nat → Int32) → (Nat → Int32) → Option (Int32 × (Nat → Int32) × (Nat → Int32)))
  | 0 => fun _ _ _ _ _ _ _ _ => none
  | d + 1 => fb1_hang (fG_X1_hang d)
noncomputable def f1_hang (d : Nat) : Int32 → Int32 → Int32 → Int32 → Int32 → (Nat → Int32) → (Nat → Int32) → (Nat → Int32) → Option (Int32 × (Nat → Int32) × (Nat → Int32)) := (fG_X1_hang d)
set_option maxHeartbeats 4000000 in
theorem w1_hang (l : Launch) (d : Nat) (q_X1_hang : Int32 → Int32 → Int32 → Int32 → Int32 → (Nat → Int32) → (Nat → Int32) → (Nat → Int32) → Option (Int32 × (Nat → Int32) × (Nat → Int32))) (ih_X1_hang : ∀ (G : gG) (K : gK) (I : gI) (J : gJ) (X : gX) (A : gI) (B : gJ) (Q : gX) (o : Nat) (sh_o : Sh K X o 0 rows0) (p1 : Int32) (p2 : Int32) (p3 : Int32) (i_size : Int32) (i_bestWay : Int32) (a_tape : Nat → Int32) (a_hooked : Nat → Int32) (a_bestHooks : Nat → Int32) (e_i_size : I 2 o = i_size) (e_i_bestWay : I 34 o = i_bestWay) (e_a_tape : A (o + 1) = a_tape) (e_a_hooked : A (o + 78) = a_hooked) (e_a_bestHooks : A (o + 79) = a_bestHooks) (out : Int32 × (Nat → Int32) × (Nat → Int32)) (hf : q_X1_hang p1 p2 p3 i_size i_bestWay a_tape a_hooked a_bestHooks = some out) , GMet l yX1_hang cX1_hang 5 none (d + 2) (d * 24 + 46) G [.ref o, .int p1, .int p2, .int p3] K I J X A B Q none K (ov I [(34, o, out.1)]) J X (ova A [((o + 1), a_tape), ((o + 78), out.2.1), ((o + 79), out.2.2)]) B Q 0 0) : ∀ (G : gG) (K : gK) (I : gI) (J : gJ) (X : gX) (A : gI) (B : gJ) (Q : gX) (o : Nat) (sh_o : Sh K X o 0 rows0) (p1 : Int32) (p2 : Int32) (p3 : Int32) (i_size : Int32) (i_bestWay : Int32) (a_tape : Nat → Int32) (a_hooked : Nat → Int32) (a_bestHooks : Nat → Int32) (e_i_size : I 2 o = i_size) (e_i_bestWay : I 34 o = i_bestWay) (e_a_tape : A (o + 1) = a_tape) (e_a_hooked : A (o + 78) = a_hooked) (e_a_bestHooks : A (o + 79) = a_bestHooks) (out : Int32 × (Nat → Int32) × (Nat → Int32)) (hf : fb1_hang q_X1_hang p1 p2 p3 i_size i_bestWay a_tape a_hooked a_bestHooks = some out), GMet l yX1_hang cX1_hang 5 none ((d + 1) + 2) ((d + 1) * 24 + 46) G [.ref o, .int p1, .int p2, .int p3] K I J X A B Q none K (ov I [(34, o, out.1)]) J X (ova A [((o + 1), a_tape), ((o + 78), out.2.1), ((o + 79), out.2.2)]) B Q 0 0 := by
  intro G K I J X A B Q o sh_o p1 p2 p3 i_size i_bestWay a_tape a_hooked a_bestHooks e_i_size e_i_bestWay e_a_tape e_a_hooked e_a_bestHooks out hf
  refine GMet.of (y := yX1_hang) rfl (Nat.le_of_ble_eq_true rfl) rfl ?_
  intro p e s m below meth c ls hx hb hr hml hlocks hts hown hname hG hR hl
  have hown : s.vm.findClass RX1 = some m.cls := hown
  have k_a_tape : K (o + 1) = some (.inr (2, 740)) := (sh_o.2 0 _ rfl).1
  have k_a_hooked : K (o + 78) = some (.inr (0, 6)) := (sh_o.2 13 _ rfl).1
  have k_a_bestHooks : K (o + 79) = some (.inr (0, 6)) := (sh_o.2 14 _ rfl).1
  have hN_A : nda [(o + 1), (o + 78), (o + 79)] := nd_off o [1, 78, 79] rfl
  have hR : RS G K (ov I [(34, o, i_bestWay)]) J X (ova A [((o + 1), a_tape), ((o + 78), a_hooked), ((o + 79), a_bestHooks)]) B Q s.heap := hR.to (Eq.symm (ov_sc e_i_bestWay rfl)) rfl rfl (Eq.symm (ova_sc e_a_tape (ova_sc e_a_hooked (ova_sc e_a_bestHooks rfl)))) rfl rfl
  have hS : va_S (gA G) s.heap s.heap [] := va_S.rf
  have hend : ∀ (pc : Nat) (H : Heap) (locs : List Loc) (ls : Array Slot), decode cX1_hang pc = .ok (.return_, 1) → RS G K (ov I [(34, o, out.1)]) J X (ova A [((o + 1), a_tape), ((o + 78), out.2.1), ((o + 79), out.2.2)]) B Q H → va_S (gA G) s.heap H locs → W p l e ({ frames := (d + 1) + 2, cells := 0, slots := 0, locals := (d + 1) * 24 + 46 } : Room) s m ([.ref o, .int p1, .int p2, .int p3] : List Value).toArray below meth c H locs 0 0 (MQ below (gQ G none K (ov I [(34, o, out.1)]) J X (ova A [((o + 1), a_tape), ((o + 78), out.2.1), ((o + 79), out.2.2)]) B Q) ([.ref o, .int p1, .int p2, .int p3] : List Value).toArray s 0 0 (gA G)) (F0 m pc ls []) := fun pc H locs ls hd hR hS => g_vret hx hb hr hlocks hG hR hS rfl hd
  generalize MQ below (gQ G none K (ov I [(34, o, out.1)]) J X (ova A [((o + 1), a_tape), ((o + 78), out.2.1), ((o + 79), out.2.2)]) B Q) ([.ref o, .int p1, .int p2, .int p3] : List Value).toArray s 0 0 (gA G) = Z at hend ⊢
  generalize ([.ref o, .int p1, .int p2, .int p3] : List Value).toArray = args at hts hend ⊢
  unfold fb1_hang at hf
  refine lv_iload_n hx hb dX1_hang_0 rfl (lv_at hl 1 rfl) ?_
  refine lv_iload_n hx hb dX1_hang_1 rfl (lv_at hl 3 rfl) ?_
  refine lv_icmp_ne (tgt := 43) hx hb dX1_hang_2 (by decide) (fun c1 => ?_) (fun c1 => ?_)
  · have hf := ite_f c1 hf
    refine lv_iload_n hx hb dX1_hang_43 rfl (lv_at hl 2 rfl) ?_
    refine lv_istore (lv' := [(4, .int p2), (0, .ref o), (1, .int p1), (2, .int p2), (3, .int p3)]) hx hb dX1_hang_44 hl (by decide) rfl (fun ls hl => ?_)
    obtain ⟨rl2, hw2, hfo2⟩ := bind_s hf
    have hx2_0 : ∀ (x2_0 : Int32 × (Nat → Int32) × (Nat → Int32)), f1_hang_e2_0 x2_0 = some out → ∀ (pc : Nat) (H : Heap) (locs : List Loc) (ls : Array Slot), decode cX1_hang pc = .ok (.return_, 1) → RS G K (ov I [(34, o, x2_0.1)]) J X (ova A [((o + 1), a_tape), ((o + 78), x2_0.2.1), ((o + 79), x2_0.2.2)]) B Q H → va_S (gA G) s.heap H locs → W p l e ({ frames := (d + 1) + 2, cells := 0, slots := 0, locals := (d + 1) * 24 + 46 } : Room) s m args below meth c H locs 0 0 Z (F0 m pc ls []) := by
      intro x2_0 hf pc H locs ls hd hR hS
      unfold f1_hang_e2_0 at hf
      obtain rfl := some_i hf
      exact hend _ _ _ _ hd hR hS
    refine whl_walk (P := fun (s2 : Int32 × Int32 × (Nat → Int32) × (Nat → Int32)) => ∀ (H : Heap) (locs : List Loc) (ls : Array Slot), RS G K (ov I [(34, o, s2.2.1)]) J X (ova A [((o + 1), a_tape), ((o + 78), s2.2.2.1), ((o + 79), s2.2.2.2)]) B Q H → va_S (gA G) s.heap H locs → lv_has ls 5 [(0, .ref o), (1, .int p1), (3, .int p3), (4, .int s2.1)] → W p l e ({ frames := (d + 1) + 2, cells := 0, slots := 0, locals := (d + 1) * 24 + 46 } : Room) s m args below meth c H locs 0 0 Z (F0 m 46 ls [])) (r := rl2) ?_ FU _ hw2 _ _ _ hR hS (lv_sub hl [1, 2, 4, 0] rfl)
    clear hR hS hl hf
    intro s2 o2 hf hk2 H locs ls hR hS hl
    obtain ⟨w2_4, w2_i_bestWay, w2_a_hooked, w2_a_bestHooks⟩ := s2
    have hf : f1_hang_s2 q_X1_hang p1 p3 i_size a_tape w2_4 w2_i_bestWay w2_a_hooked w2_a_bestHooks = some o2 := hf
    have hR : RS G K (ov I [(34, o, w2_i_bestWay)]) J X (ova A [((o + 1), a_tape), ((o + 78), w2_a_hooked), ((o + 79), w2_a_bestHooks)]) B Q H := hR
    have hl : lv_has ls 5 [(0, .ref o), (1, .int p1), (3, .int p3), (4, .int w2_4)] := hl
    unfold f1_hang_s2 at hf
    refine lv_iload hx hb dX1_hang_46 (lv_at hl 3 rfl) ?_
    refine lv_aload_n hx hb dX1_hang_48 rfl (lv_at hl 0 rfl) ?_
    refine n_geti (v := i_size) hx hb hts hown hG hR gFi_X1_222_0 sh_o.1 ((congrFun (ov_no rfl) _).trans e_i_size) dX1_hang_49 ?_
    refine lv_icmp_ge (tgt := 85) hx hb dX1_hang_52 (by decide) (fun c3 => ?_) (fun c3 => ?_)
    · have hf := ite_t c3 hf
      obtain rfl := some_i hf
      replace hk2 : _ = rl2 := hk2
      subst hk2
      exact hx2_0 (w2_i_bestWay, w2_a_hooked, w2_a_bestHooks) hfo2 _ _ _ _ dX1_hang_85 hR hS
    · have hf := ite_f c3 hf
      refine lv_aload_n hx hb dX1_hang_55 rfl (lv_at hl 0 rfl) ?_
      refine g_getr (b := (o + 78)) hx hb hts hown hG hR gFx_X1_160_0 sh_o.1 ((sh_o.2 13 _ rfl).2) dX1_hang_56 ?_
      refine lv_iload_n hx hb dX1_hang_59 rfl (lv_at hl 1 rfl) ?_
      refine lv_aload_n hx hb dX1_hang_60 rfl (lv_at hl 0 rfl) ?_
      refine lv_iload hx hb dX1_hang_61 (lv_at hl 3 rfl) ?_
      obtain ⟨rr4, hrr4, hf⟩ := bind_s hf
      refine g0_cV (rm := (0, 0)) (As := [.int w2_4]) (rest := [.int p1, .ref (o + 78)]) ⟨hx, hb, hml, hown, hts⟩ hG hR hS (m1_one l G K (ov I [(34, o, w2_i_bestWay)]) J X (ova A [((o + 1), a_tape), ((o + 78), w2_a_hooked), ((o + 79), w2_a_bestHooks)]) B Q o sh_o w2_4 a_tape (ova_get 0 hN_A rfl) rr4 hrr4) (cwV 1 hts gi_X1_311 rfl rfl rfl hd_X1_one ⟨by dsimp only; omega, by dsimp only; omega⟩) sh_o.1 rfl rfl hl.1 (Nat.le_of_ble_eq_true rfl) dX1_hang_63 ⟨Nat.le_refl _, Nat.le_refl _⟩ rfl (fun H locs hR hS => ?_)
      obtain ⟨c5, hf⟩ := gd_some hf
      obtain ⟨u6, eu6, hf⟩ := lt_some hf
      refine n_iast (la' := [((o + 1), a_tape), ((o + 78), u6), ((o + 79), w2_a_bestHooks)]) hx hb hG hR hS k_a_hooked c5 hN_A 1 rfl eu6 rfl dX1_hang_66 (fun H locs hR hS => ?_)
      refine lv_aload_n hx hb dX1_hang_67 rfl (lv_at hl 0 rfl) ?_
      refine lv_iload_n hx hb dX1_hang_68 rfl (lv_at hl 1 rfl) ?_
      refine lv_iconst (v := 1) hx hb dX1_hang_69 li_1 ?_
      obtain ⟨v7, ev7, hf⟩ := lt_some hf
      refine n_iadd hx hb ev7 dX1_hang_70 ?_
      refine lv_iload hx hb dX1_hang_71 (lv_at hl 3 rfl) ?_
      refine lv_iconst (v := 1) hx hb dX1_hang_73 li_1 ?_
      obtain ⟨v8, ev8, hf⟩ := lt_some hf
      refine n_iadd hx hb ev8 dX1_hang_74 ?_
      refine lv_iload_n hx hb dX1_hang_75 rfl (lv_at hl 2 rfl) ?_
      obtain ⟨rr9, hrr9, hf⟩ := bind_s hf
      refine g0_cVv (rm := (d + 2, d * 24 + 46)) (As := [.int v7, .int v8, .int p3]) (rest := []) ⟨hx, hb, hml, hown, hts⟩ hG hR hS (ih_X1_hang G K (ov I [(34, o, w2_i_bestWay)]) J X (ova A [((o + 1), a_tape), ((o + 78), u6), ((o + 79), w2_a_bestHooks)]) B Q o sh_o v7 v8 p3 i_size w2_i_bestWay a_tape u6 w2_a_bestHooks ((congrFun (ov_no rfl) _).trans e_i_size) (ov_get 0 rfl rfl) (ova_get 0 hN_A rfl) (ova_get 1 hN_A rfl) (ova_get 2 hN_A rfl) rr9 hrr9) (cwV 3 hts gi_X1_417 rfl rfl rfl hd_X1_hang ⟨by dsimp only; omega, by dsimp only; omega⟩) sh_o.1 rfl rfl hl.1 (Nat.le_of_ble_eq_true rfl) dX1_hang_76 ⟨Nat.le_refl _, Nat.le_refl _⟩ rfl (fun H locs hR hS => ?_)
      have hR : RS G K (ov I [(34, o, rr9.1)]) J X (ova A [((o + 1), a_tape), ((o + 78), rr9.2.1), ((o + 79), rr9.2.2)]) B Q H := hR.to (ov_merge (l := [(34, o, w2_i_bestWay)]) rfl [0] [(34, o, rr9.1)] rfl rfl) rfl rfl (ova_merge (l := [((o + 1), a_tape), ((o + 78), u6), ((o + 79), w2_a_bestHooks)]) hN_A [0, 1, 2] [((o + 1), a_tape), ((o + 78), rr9.2.1), ((o + 79), rr9.2.2)] rfl rfl) rfl rfl
      obtain ⟨v10, ev10, hf⟩ := lt_some hf
      refine lv_iinc (k := 3) (v := v10) (lv' := [(4, .int v10), (0, .ref o), (1, .int p1), (3, .int p3)]) hx hb dX1_hang_79 hl rfl (by rw [ev10]; rfl) (by decide) rfl (fun ls hl => ?_)
      refine lv_goto (tgt := 46) hx hb dX1_hang_82 (by decide) ?_
      obtain rfl := some_i hf
      exact hk2 _ _ _ hR hS (lv_sub hl [1, 2, 3, 0] rfl)
  · have hf := ite_t c1 hf
    refine lv_aload_n hx hb dX1_hang_5 rfl (lv_at hl 0 rfl) ?_
    refine lv_iload_n hx hb dX1_hang_6 rfl (lv_at hl 3 rfl) ?_
    obtain ⟨rr11, hrr11, hf⟩ := bind_s hf
    refine g0_cV (rm := (1, 21)) (As := [.int p3]) (rest := []) ⟨hx, hb, hml, hown, hts⟩ hG hR hS (m1_wayBy l G K (ov I [(34, o, i_bestWay)]) J X (ova A [((o + 1), a_tape), ((o + 78), a_hooked), ((o + 79), a_bestHooks)]) B Q o sh_o p3 i_size a_tape a_hooked ((congrFun (ov_no rfl) _).trans e_i_size) (ova_get 0 hN_A rfl) (ova_get 1 hN_A rfl) rr11 hrr11) (cwV 1 hts gi_X1_424 rfl rfl rfl hd_X1_wayBy ⟨by dsimp only; omega, by dsimp only; omega⟩) sh_o.1 rfl rfl hl.1 (Nat.le_of_ble_eq_true rfl) dX1_hang_7 ⟨Nat.le_refl _, Nat.le_refl _⟩ rfl (fun H locs hR hS => ?_)
    refine lv_istore (lv' := [(4, .int rr11), (0, .ref o), (1, .int p1), (2, .int p2), (3, .int p3)]) hx hb dX1_hang_10 hl (by decide) rfl (fun ls hl => ?_)
    refine lv_iload hx hb dX1_hang_12 (lv_at hl 0 rfl) ?_
    refine lv_aload_n hx hb dX1_hang_14 rfl (lv_at hl 1 rfl) ?_
    refine n_geti (v := i_bestWay) hx hb hts hown hG hR gFi_X1_414_0 sh_o.1 (ov_get 0 rfl rfl) dX1_hang_15 ?_
    refine lv_icmp_lt (tgt := 22) hx hb dX1_hang_18 (by decide) (fun c12 => ?_) (fun c12 => ?_)
    · have hf := ite_t c12 hf
      refine lv_aload_n hx hb dX1_hang_22 rfl (lv_at hl 1 rfl) ?_
      refine lv_iload hx hb dX1_hang_23 (lv_at hl 0 rfl) ?_
      refine n_puti (li' := [(34, o, rr11)]) hx hb hts hown hG hR hS gPi_X1_414_0 sh_o.1 0 rfl rfl rfl dX1_hang_25 (fun H locs hR hS => ?_)
      refine lv_aload_n hx hb dX1_hang_28 rfl (lv_at hl 1 rfl) ?_
      refine g_getr (b := (o + 78)) hx hb hts hown hG hR gFx_X1_160_0 sh_o.1 ((sh_o.2 13 _ rfl).2) dX1_hang_29 ?_
      refine lv_iconst (v := 0) hx hb dX1_hang_32 li_0 ?_
      refine lv_aload_n hx hb dX1_hang_33 rfl (lv_at hl 1 rfl) ?_
      refine g_getr (b := (o + 79)) hx hb hts hown hG hR gFx_X1_163_0 sh_o.1 ((sh_o.2 14 _ rfl).2) dX1_hang_34 ?_
      refine lv_iconst (v := 0) hx hb dX1_hang_37 li_0 ?_
      refine lv_iload_n hx hb dX1_hang_38 rfl (lv_at hl 4 rfl) ?_
      obtain ⟨c13, hf⟩ := gd_some hf
      obtain ⟨u14, eu14, hf⟩ := lt_some hf
      refine n_copy (la' := [((o + 1), a_tape), ((o + 78), a_hooked), ((o + 79), u14)]) (t := 0) hx hb (hml.trans hl.1.symm) hown (hts _ q1210) (hts _ q1142) (hts _ q1141) (hts _ q126) hG hR hS k_a_hooked k_a_bestHooks (by decide) rfl rfl c13 1 2 hN_A rfl rfl (fun _ _ => rfl) eu14 rfl (Nat.le_trans (Nat.le_of_ble_eq_true rfl : 1 ≤ 2) (Nat.le_add_left _ _)) (Nat.le_trans (m := 46) (Nat.le_of_ble_eq_true rfl) (Nat.le_add_left _ _)) dX1_hang_39 (fun H locs hR hS => ?_)
      obtain rfl := some_i hf
      exact hend _ _ _ _ dX1_hang_42 hR hS
    · have hf := ite_f c12 hf
      obtain rfl := some_i hf
      exact hend _ _ _ _ dX1_hang_21 hR hS
theorem f1_hang_z : f1_hang 0 = fun _ _ _ _ _ _ _ _ => none := rfl
theorem f1_hang_s (d : Nat) : f1_hang (d + 1) = fb1_hang (f1_hang d) := rfl
theorem mG_X1_hang (l : Launch) : ∀ d : Nat, (∀ (G : gG) (K : gK) (I : gI) (J : gJ) (X : gX) (A : gI) (B : gJ) (Q : gX) (o : Nat) (sh_o : Sh K X o 0 rows0) (p1 : Int32) (p2 : Int32) (p3 : Int32) (i_size : Int32) (i_bestWay : Int32) (a_tape : Nat → Int32) (a_hooked : Nat → Int32) (a_bestHooks : Nat → Int32) (e_i_size : I 2 o = i_size) (e_i_bestWay : I 34 o = i_bestWay) (e_a_tape : A (o + 1) = a_tape) (e_a_hooked : A (o + 78) = a_hooked) (e_a_bestHooks : A (o + 79) = a_bestHooks) (out : Int32 × (Nat → Int32) × (Nat → Int32)) (hf : f1_hang d p1 p2 p3 i_size i_bestWay a_tape a_hooked a_bestHooks = some out), GMet l yX1_hang cX1_hang 5 none (d + 2) (d * 24 + 46) G [.ref o, .int p1, .int p2, .int p3] K I J X A B Q none K (ov I [(34, o, out.1)]) J X (ova A [((o + 1), a_tape), ((o + 78), out.2.1), ((o + 79), out.2.2)]) B Q 0 0) := by
  intro d
  induction d with
  | zero =>
    exact (by intro G K I J X A B Q o sh_o p1 p2 p3 i_size i_bestWay a_tape a_hooked a_bestHooks e_i_size e_i_bestWay e_a_tape e_a_hooked e_a_bestHooks out hf; rw [f1_hang_z] at hf; cases hf)
  | succ d ih =>
    exact (by intro G K I J X A B Q o sh_o p1 p2 p3 i_size i_bestWay a_tape a_hooked a_bestHooks e_i_size e_i_bestWay e_a_tape e_a_hooked e_a_bestHooks out hf; rw [f1_hang_s] at hf; exact w1_hang l d (f1_hang d) ih G K I J X A B Q o sh_o p1 p2 p3 i_size i_bestWay a_tape a_hooked a_bestHooks e_i_size e_i_bestWay e_a_tape e_a_hooked e_a_bestHooks out hf)
theorem m1_hang (l : Launch) (d : Nat) : ∀ (G : gG) (K : gK) (I : gI) (J : gJ) (X : gX) (A : gI) (B : gJ) (Q : gX) (o : Nat) (sh_o : Sh K X o 0 rows0) (p1 : Int32) (p2 : Int32) (p3 : Int32) (i_size : Int32) (i_bestWay : Int32) (a_tape : Nat → Int32) (a_hooked : Nat → Int32) (a_bestHooks : Nat → Int32) (e_i_size : I 2 o = i_size) (e_i_bestWay : I 34 o = i_bestWay) (e_a_tape : A (o + 1) = a_tape) (e_a_hooked : A (o + 78) = a_hooked) (e_a_bestHooks : A (o + 79) = a_bestHooks) (out : Int32 × (Nat → Int32) × (Nat → Int32)) (hf : f1_hang d p1 p2 p3 i_size i_bestWay a_tape a_hooked a_bestHooks = some out), GMet l yX1_hang cX1_hang 5 none (d + 2) (d * 24 + 46) G [.ref o, .int p1, .int p2, .int p3] K I J X A B Q none K (ov I [(34, o, out.1)]) J X (ova A [((o + 1), a_tape), ((o + 78), out.2.1), ((o + 79), out.2.2)]) B Q 0 0 := (mG_X1_hang l d)
noncomputable def f1_hooks_e7_0 (p1 : Int32) (a_tape : Nat → Int32) (a_hooked : Nat → Int32) (a_bestHooks : Nat → Int32) (rr1 : Int32 × Int32) (x7_0 : Unit) : Option (Int32 × Int32 × Int32 × Int32 × Int32 × (Nat → Int32) × (Nat → Int32)) :=
  (f1_hang 8 (0 : Int32) (0 : Int32) p1 rr1.2 (1000000000 : Int32) a_tape a_hooked a_bestHooks).bind fun rr8 =>
  some (rr8.1, rr1.1, rr1.2, p1, rr8.1, rr8.2.1, rr8.2.2)

noncomputable def f1_hooks_e7_1 (x7_1 : Int32 × Int32 × Int32 × Int32 × Int32 × (Nat → Int32) × (Nat → Int32)) : Option (Int32 × Int32 × Int32 × Int32 × Int32 × (Nat → Int32) × (Nat → Int32)) :=
  some x7_1

noncomputable def f1_hooks_j77 (w7_2 : Int32) : Option ((Int32) ⊕ ((Unit) ⊕ (Int32 × Int32 × Int32 × Int32 × Int32 × (Nat → Int32) × (Nat → Int32)))) :=
  lt (w7_2 + (1 : Int32)) fun v12 =>
  some (.inl v12)

noncomputable def f1_hooks_s7 (i_hookMany : Int32) (i_bestWay : Int32) (a_tape : Nat → Int32) (a_hooked : Nat → Int32) (a_bestHooks : Nat → Int32) (rr1 : Int32 × Int32) (w7_2 : Int32) : Option ((Int32) ⊕ ((Unit) ⊕ (Int32 × Int32 × Int32 × Int32 × Int32 × (Nat → Int32) × (Nat → Int32)))) :=
  if rr1.2 ≤ w7_2 then
    some (.inr (.inl ()))
  else
    (f1_one w7_2 a_tape).bind fun rr10 =>
    if (99 : Int32) < rr10 then
      some (.inr (.inr ((-1 : Int32), rr1.1, rr1.2, i_hookMany, i_bestWay, a_hooked, a_bestHooks)))
    else
      if w7_2 ≤ 0 then
        f1_hooks_j77 w7_2
      else
        (f1_one w7_2 a_tape).bind fun rr14 =>
        lt (w7_2 - (1 : Int32)) fun v15 =>
        (f1_one v15 a_tape).bind fun rr16 =>
        if rr16 < rr14 then
          f1_hooks_j77 w7_2
        else
          some (.inr (.inr ((-1 : Int32), rr1.1, rr1.2, i_hookMany, i_bestWay, a_hooked, a_bestHooks)))

noncomputable def f1_hooks (p1 : Int32) (i_length : Int32) (i_size : Int32) (i_hookMany : Int32) (i_bestWay : Int32) (a_tape : Nat → Int32) (a_hooked : Nat → Int32) (a_bestHooks : Nat → Int32) : Option (Int32 × Int32 × Int32 × Int32 × Int32 × (Nat → Int32) × (Nat → Int32)) :=
  (f1_taken i_length i_size).bind fun rr1 =>
  (f1_isIn rr1.2 (1 : Int32) (12 : Int32)).bind fun rr2 =>
  if rr2 = 0 then
    some ((-1 : Int32), rr1.1, rr1.2, i_hookMany, i_bestWay, a_hooked, a_bestHooks)
  else
    lt (if rr1.2 < (6 : Int32) then rr1.2 else (6 : Int32)) fun v4 =>
    (f1_isIn p1 (1 : Int32) v4).bind fun rr5 =>
    if rr5 = 0 then
      some ((-1 : Int32), rr1.1, rr1.2, i_hookMany, i_bestWay, a_hooked, a_bestHooks)
    else
      (whl (fun (s7 : Int32) => f1_hooks_s7 i_hookMany i_bestWay a_tape a_hooked a_bestHooks rr1 s7) FU (0 : Int32)).bind fun rl7 =>
      Sum.elim (f1_hooks_e7_0 p1 a_tape a_hooked a_bestHooks rr1) (f1_hooks_e7_1) rl7
set_option maxHeartbeats 4000000 in
theorem m1_hooks (l : Launch) (G : gG) (K : gK) (I : gI) (J : gJ) (X : gX) (A : gI) (B : gJ) (Q : gX) (o : Nat) (sh_o : Sh K X o 0 rows0) (p1 : Int32) (i_length : Int32) (i_size : Int32) (i_hookMany : Int32) (i_bestWay : Int32) (a_tape : Nat → Int32) (a_hooked : Nat → Int32) (a_bestHooks : Nat → Int32) (e_i_length : I 1 o = i_length) (e_i_size : I 2 o = i_size) (e_i_hookMany : I 33 o = i_hookMany) (e_i_bestWay : I 34 o = i_bestWay) (e_a_tape : A (o + 1) = a_tape) (e_a_hooked : A (o + 78) = a_hooked) (e_a_bestHooks : A (o + 79) = a_bestHooks) (out : Int32 × Int32 × Int32 × Int32 × Int32 × (Nat → Int32) × (Nat → Int32)) (hf : f1_hooks p1 i_length i_size i_hookMany i_bestWay a_tape a_hooked a_bestHooks = some out) : GMet l yX1_hooks cX1_hooks 3 (some .int) (11) (262) G [.ref o, .int p1] K I J X A B Q (some (.int out.1)) K (ov I [(1, o, out.2.1), (2, o, out.2.2.1), (33, o, out.2.2.2.1), (34, o, out.2.2.2.2.1)]) J X (ova A [((o + 1), a_tape), ((o + 78), out.2.2.2.2.2.1), ((o + 79), out.2.2.2.2.2.2)]) B Q 0 0 := by
  refine GMet.of (y := yX1_hooks) rfl (Nat.le_of_ble_eq_true rfl) rfl ?_
  intro p e s m below meth c ls hx hb hr hml hlocks hts hown hname hG hR hl
  have hown : s.vm.findClass RX1 = some m.cls := hown
  have k_a_tape : K (o + 1) = some (.inr (2, 740)) := (sh_o.2 0 _ rfl).1
  have k_a_hooked : K (o + 78) = some (.inr (0, 6)) := (sh_o.2 13 _ rfl).1
  have k_a_bestHooks : K (o + 79) = some (.inr (0, 6)) := (sh_o.2 14 _ rfl).1
  have hN_A : nda [(o + 1), (o + 78), (o + 79)] := nd_off o [1, 78, 79] rfl
  have hR : RS G K (ov I [(1, o, i_length), (2, o, i_size), (33, o, i_hookMany), (34, o, i_bestWay)]) J X (ova A [((o + 1), a_tape), ((o + 78), a_hooked), ((o + 79), a_bestHooks)]) B Q s.heap := hR.to (Eq.symm (ov_sc e_i_length (ov_sc e_i_size (ov_sc e_i_hookMany (ov_sc e_i_bestWay rfl))))) rfl rfl (Eq.symm (ova_sc e_a_tape (ova_sc e_a_hooked (ova_sc e_a_bestHooks rfl)))) rfl rfl
  have hS : va_S (gA G) s.heap s.heap [] := va_S.rf
  have hend : ∀ (pc : Nat) (H : Heap) (locs : List Loc) (ls : Array Slot), decode cX1_hooks pc = .ok (.ireturn, 1) → RS G K (ov I [(1, o, out.2.1), (2, o, out.2.2.1), (33, o, out.2.2.2.1), (34, o, out.2.2.2.2.1)]) J X (ova A [((o + 1), a_tape), ((o + 78), out.2.2.2.2.2.1), ((o + 79), out.2.2.2.2.2.2)]) B Q H → va_S (gA G) s.heap H locs → W p l e ({ frames := 11, cells := 0, slots := 0, locals := 262 } : Room) s m ([.ref o, .int p1] : List Value).toArray below meth c H locs 0 0 (MQ below (gQ G (some (.int out.1)) K (ov I [(1, o, out.2.1), (2, o, out.2.2.1), (33, o, out.2.2.2.1), (34, o, out.2.2.2.2.1)]) J X (ova A [((o + 1), a_tape), ((o + 78), out.2.2.2.2.2.1), ((o + 79), out.2.2.2.2.2.2)]) B Q) ([.ref o, .int p1] : List Value).toArray s 0 0 (gA G)) (F0 m pc ls [.int out.1]) := fun pc H locs ls hd hR hS => g_iret hx hb hr hlocks hG hR hS rfl hd
  generalize MQ below (gQ G (some (.int out.1)) K (ov I [(1, o, out.2.1), (2, o, out.2.2.1), (33, o, out.2.2.2.1), (34, o, out.2.2.2.2.1)]) J X (ova A [((o + 1), a_tape), ((o + 78), out.2.2.2.2.2.1), ((o + 79), out.2.2.2.2.2.2)]) B Q) ([.ref o, .int p1] : List Value).toArray s 0 0 (gA G) = Z at hend ⊢
  generalize ([.ref o, .int p1] : List Value).toArray = args at hts hend ⊢
  unfold f1_hooks at hf
  refine lv_aload_n hx hb dX1_hooks_0 rfl (lv_at hl 0 rfl) ?_
  obtain ⟨rr1, hrr1, hf⟩ := bind_s hf
  refine g0_cVv (rm := (0, 0)) (As := []) (rest := []) ⟨hx, hb, hml, hown, hts⟩ hG hR hS (m1_taken l G K (ov I [(1, o, i_length), (2, o, i_size), (33, o, i_hookMany), (34, o, i_bestWay)]) J X (ova A [((o + 1), a_tape), ((o + 78), a_hooked), ((o + 79), a_bestHooks)]) B Q o sh_o i_length i_size (ov_get 0 rfl rfl) (ov_get 1 rfl rfl) rr1 hrr1) (cwV 0 hts gi_X1_228 rfl rfl rfl hd_X1_taken ⟨Nat.le_of_ble_eq_true rfl, Nat.le_of_ble_eq_true rfl⟩) sh_o.1 rfl rfl hl.1 (Nat.le_of_ble_eq_true rfl) dX1_hooks_1 ⟨Nat.le_refl _, Nat.le_refl _⟩ rfl (fun H locs hR hS => ?_)
  have hR : RS G K (ov I [(1, o, rr1.1), (2, o, rr1.2), (33, o, i_hookMany), (34, o, i_bestWay)]) J X (ova A [((o + 1), a_tape), ((o + 78), a_hooked), ((o + 79), a_bestHooks)]) B Q H := hR.to (ov_merge (l := [(1, o, i_length), (2, o, i_size), (33, o, i_hookMany), (34, o, i_bestWay)]) rfl [0, 1] [(1, o, rr1.1), (2, o, rr1.2)] rfl rfl) rfl rfl rfl rfl rfl
  refine lv_aload_n hx hb dX1_hooks_4 rfl (lv_at hl 0 rfl) ?_
  refine n_geti (v := rr1.2) hx hb hts hown hG hR gFi_X1_222_0 sh_o.1 (ov_get 1 rfl rfl) dX1_hooks_5 ?_
  refine lv_iconst (v := 1) hx hb dX1_hooks_8 li_1 ?_
  refine lv_bipush (v := 12) hx hb dX1_hooks_9 lb_12 ?_
  obtain ⟨rr2, hrr2, hf⟩ := bind_s hf
  refine g0_cS (rm := (0, 0)) (As := [.int rr1.2, .int (1 : Int32), .int (12 : Int32)]) (rest := []) ⟨hx, hb, hml, hown, hts⟩ hG hR hS (m1_isIn l G K (ov I [(1, o, rr1.1), (2, o, rr1.2), (33, o, i_hookMany), (34, o, i_bestWay)]) J X (ova A [((o + 1), a_tape), ((o + 78), a_hooked), ((o + 79), a_bestHooks)]) B Q rr1.2 (1 : Int32) (12 : Int32) rr2 hrr2) (cwS 3 hts gi_X1_271 rfl rfl rfl hd_X1_isIn ⟨Nat.le_of_ble_eq_true rfl, Nat.le_of_ble_eq_true rfl⟩) rfl hl.1 (Nat.le_of_ble_eq_true rfl) dX1_hooks_11 ⟨Nat.le_refl _, Nat.le_refl _⟩ rfl (fun H locs hR hS => ?_)
  refine lv_if_eq (tgt := 34) hx hb dX1_hooks_14 (by decide) (fun c3 => ?_) (fun c3 => ?_)
  · have hf := ite_t c3 hf
    refine lv_iconst (v := -1) hx hb dX1_hooks_34 li_m1 ?_
    obtain rfl := some_i hf
    exact hend _ _ _ _ dX1_hooks_35 hR hS
  · have hf := ite_f c3 hf
    refine lv_iload_n hx hb dX1_hooks_17 rfl (lv_at hl 1 rfl) ?_
    refine lv_iconst (v := 1) hx hb dX1_hooks_18 li_1 ?_
    refine lv_bipush (v := 6) hx hb dX1_hooks_19 lb_6 ?_
    refine lv_aload_n hx hb dX1_hooks_21 rfl (lv_at hl 0 rfl) ?_
    refine n_geti (v := rr1.2) hx hb hts hown hG hR gFi_X1_222_0 sh_o.1 (ov_get 1 rfl rfl) dX1_hooks_22 ?_
    obtain ⟨v4, ev4, hf⟩ := lt_some hf
    refine n_mmin hx hb (hml.trans hl.1.symm) hown (hts _ q1291) (hts _ q1183) (hts _ q127) (hts _ q1184) (Nat.le_of_ble_eq_true rfl) (Nat.le_of_ble_eq_true rfl) (Nat.le_refl _) (Nat.le_refl _) ev4 dX1_hooks_25 ?_
    obtain ⟨rr5, hrr5, hf⟩ := bind_s hf
    refine g0_cS (rm := (0, 0)) (As := [.int p1, .int (1 : Int32), .int v4]) (rest := []) ⟨hx, hb, hml, hown, hts⟩ hG hR hS (m1_isIn l G K (ov I [(1, o, rr1.1), (2, o, rr1.2), (33, o, i_hookMany), (34, o, i_bestWay)]) J X (ova A [((o + 1), a_tape), ((o + 78), a_hooked), ((o + 79), a_bestHooks)]) B Q p1 (1 : Int32) v4 rr5 hrr5) (cwS 3 hts gi_X1_271 rfl rfl rfl hd_X1_isIn ⟨Nat.le_of_ble_eq_true rfl, Nat.le_of_ble_eq_true rfl⟩) rfl hl.1 (Nat.le_of_ble_eq_true rfl) dX1_hooks_28 ⟨Nat.le_refl _, Nat.le_refl _⟩ rfl (fun H locs hR hS => ?_)
    refine lv_if_ne (tgt := 36) hx hb dX1_hooks_31 (by decide) (fun c6 => ?_) (fun c6 => ?_)
    · have hf := ite_f c6 hf
      refine lv_iconst (v := 0) hx hb dX1_hooks_36 li_0 ?_
      refine lv_istore_n (lv' := [(2, .int (0 : Int32)), (0, .ref o), (1, .int p1)]) hx hb dX1_hooks_37 rfl hl (by decide) rfl (fun ls hl => ?_)
      obtain ⟨rl7, hw7, hfo7⟩ := bind_s hf
      have hx7_0 : ∀ (x7_0 : Unit), f1_hooks_e7_0 p1 a_tape a_hooked a_bestHooks rr1 x7_0 = some out → ∀ (H : Heap) (locs : List Loc) (ls : Array Slot), RS G K (ov I [(1, o, rr1.1), (2, o, rr1.2), (33, o, i_hookMany), (34, o, i_bestWay)]) J X (ova A [((o + 1), a_tape), ((o + 78), a_hooked), ((o + 79), a_bestHooks)]) B Q H → va_S (gA G) s.heap H locs → lv_has ls 3 [(0, .ref o), (1, .int p1)] → W p l e ({ frames := 11, cells := 0, slots := 0, locals := 262 } : Room) s m args below meth c H locs 0 0 Z (F0 m 83 ls []) := by
        intro x7_0 hf H locs ls hR hS hl
        unfold f1_hooks_e7_0 at hf
        refine lv_aload_n hx hb dX1_hooks_83 rfl (lv_at hl 0 rfl) ?_
        refine lv_ldcw hx hb hown (hts _ q1231) dX1_hooks_84 ?_
        refine n_puti (li' := [(1, o, rr1.1), (2, o, rr1.2), (33, o, i_hookMany), (34, o, (1000000000 : Int32))]) hx hb hts hown hG hR hS gPi_X1_414_0 sh_o.1 3 rfl rfl rfl dX1_hooks_87 (fun H locs hR hS => ?_)
        refine lv_aload_n hx hb dX1_hooks_90 rfl (lv_at hl 0 rfl) ?_
        refine lv_iconst (v := 0) hx hb dX1_hooks_91 li_0 ?_
        refine lv_iconst (v := 0) hx hb dX1_hooks_92 li_0 ?_
        refine lv_iload_n hx hb dX1_hooks_93 rfl (lv_at hl 1 rfl) ?_
        obtain ⟨rr8, hrr8, hf⟩ := bind_s hf
        refine g0_cVv (rm := (10, 238)) (As := [.int (0 : Int32), .int (0 : Int32), .int p1]) (rest := []) ⟨hx, hb, hml, hown, hts⟩ hG hR hS (m1_hang l 8 G K (ov I [(1, o, rr1.1), (2, o, rr1.2), (33, o, i_hookMany), (34, o, (1000000000 : Int32))]) J X (ova A [((o + 1), a_tape), ((o + 78), a_hooked), ((o + 79), a_bestHooks)]) B Q o sh_o (0 : Int32) (0 : Int32) p1 rr1.2 (1000000000 : Int32) a_tape a_hooked a_bestHooks (ov_get 1 rfl rfl) (ov_get 3 rfl rfl) (ova_get 0 hN_A rfl) (ova_get 1 hN_A rfl) (ova_get 2 hN_A rfl) rr8 hrr8) (cwV 3 hts gi_X1_417 rfl rfl rfl hd_X1_hang ⟨Nat.le_of_ble_eq_true rfl, Nat.le_of_ble_eq_true rfl⟩) sh_o.1 rfl rfl hl.1 (Nat.le_of_ble_eq_true rfl) dX1_hooks_94 ⟨Nat.le_refl _, Nat.le_refl _⟩ rfl (fun H locs hR hS => ?_)
        have hR : RS G K (ov I [(1, o, rr1.1), (2, o, rr1.2), (33, o, i_hookMany), (34, o, rr8.1)]) J X (ova A [((o + 1), a_tape), ((o + 78), rr8.2.1), ((o + 79), rr8.2.2)]) B Q H := hR.to (ov_merge (l := [(1, o, rr1.1), (2, o, rr1.2), (33, o, i_hookMany), (34, o, (1000000000 : Int32))]) rfl [3] [(34, o, rr8.1)] rfl rfl) rfl rfl (ova_merge (l := [((o + 1), a_tape), ((o + 78), a_hooked), ((o + 79), a_bestHooks)]) hN_A [0, 1, 2] [((o + 1), a_tape), ((o + 78), rr8.2.1), ((o + 79), rr8.2.2)] rfl rfl) rfl rfl
        refine lv_aload_n hx hb dX1_hooks_97 rfl (lv_at hl 0 rfl) ?_
        refine lv_iload_n hx hb dX1_hooks_98 rfl (lv_at hl 1 rfl) ?_
        refine n_puti (li' := [(1, o, rr1.1), (2, o, rr1.2), (33, o, p1), (34, o, rr8.1)]) hx hb hts hown hG hR hS gPi_X1_421_0 sh_o.1 2 rfl rfl rfl dX1_hooks_99 (fun H locs hR hS => ?_)
        refine lv_aload_n hx hb dX1_hooks_102 rfl (lv_at hl 0 rfl) ?_
        refine n_geti (v := rr8.1) hx hb hts hown hG hR gFi_X1_414_0 sh_o.1 (ov_get 3 rfl rfl) dX1_hooks_103 ?_
        obtain rfl := some_i hf
        exact hend _ _ _ _ dX1_hooks_106 hR hS
      have hx7_1 : ∀ (x7_1 : Int32 × Int32 × Int32 × Int32 × Int32 × (Nat → Int32) × (Nat → Int32)), f1_hooks_e7_1 x7_1 = some out → ∀ (pc : Nat) (H : Heap) (locs : List Loc) (ls : Array Slot), decode cX1_hooks pc = .ok (.ireturn, 1) → RS G K (ov I [(1, o, x7_1.2.1), (2, o, x7_1.2.2.1), (33, o, x7_1.2.2.2.1), (34, o, x7_1.2.2.2.2.1)]) J X (ova A [((o + 1), a_tape), ((o + 78), x7_1.2.2.2.2.2.1), ((o + 79), x7_1.2.2.2.2.2.2)]) B Q H → va_S (gA G) s.heap H locs → W p l e ({ frames := 11, cells := 0, slots := 0, locals := 262 } : Room) s m args below meth c H locs 0 0 Z (F0 m pc ls [.int x7_1.1]) := by
        intro x7_1 hf pc H locs ls hd hR hS
        unfold f1_hooks_e7_1 at hf
        obtain rfl := some_i hf
        exact hend _ _ _ _ hd hR hS
      refine whl_walk (P := fun (s7 : Int32) => ∀ (H : Heap) (locs : List Loc) (ls : Array Slot), RS G K (ov I [(1, o, rr1.1), (2, o, rr1.2), (33, o, i_hookMany), (34, o, i_bestWay)]) J X (ova A [((o + 1), a_tape), ((o + 78), a_hooked), ((o + 79), a_bestHooks)]) B Q H → va_S (gA G) s.heap H locs → lv_has ls 3 [(0, .ref o), (1, .int p1), (2, .int s7)] → W p l e ({ frames := 11, cells := 0, slots := 0, locals := 262 } : Room) s m args below meth c H locs 0 0 Z (F0 m 38 ls [])) (r := rl7) ?_ FU _ hw7 _ _ _ hR hS (lv_sub hl [1, 2, 0] rfl)
      clear hR hS hl hf
      intro s7 o7 hf hk7 H locs ls hR hS hl
      obtain ⟨w7_2, rfl⟩ : ∃ z, z = s7 := ⟨_, rfl⟩
      have hf : f1_hooks_s7 i_hookMany i_bestWay a_tape a_hooked a_bestHooks rr1 w7_2 = some o7 := hf
      have hR : RS G K (ov I [(1, o, rr1.1), (2, o, rr1.2), (33, o, i_hookMany), (34, o, i_bestWay)]) J X (ova A [((o + 1), a_tape), ((o + 78), a_hooked), ((o + 79), a_bestHooks)]) B Q H := hR
      have hl : lv_has ls 3 [(0, .ref o), (1, .int p1), (2, .int w7_2)] := hl
      unfold f1_hooks_s7 at hf
      refine lv_iload_n hx hb dX1_hooks_38 rfl (lv_at hl 2 rfl) ?_
      refine lv_aload_n hx hb dX1_hooks_39 rfl (lv_at hl 0 rfl) ?_
      refine n_geti (v := rr1.2) hx hb hts hown hG hR gFi_X1_222_0 sh_o.1 (ov_get 1 rfl rfl) dX1_hooks_40 ?_
      refine lv_icmp_ge (tgt := 83) hx hb dX1_hooks_43 (by decide) (fun c9 => ?_) (fun c9 => ?_)
      · have hf := ite_t c9 hf
        obtain rfl := some_i hf
        replace hk7 : _ = rl7 := hk7
        subst hk7
        exact hx7_0 () (el_l hfo7) _ _ _ hR hS (lv_sub hl [0, 1] rfl)
      · have hf := ite_f c9 hf
        refine lv_aload_n hx hb dX1_hooks_46 rfl (lv_at hl 0 rfl) ?_
        refine lv_iload_n hx hb dX1_hooks_47 rfl (lv_at hl 2 rfl) ?_
        obtain ⟨rr10, hrr10, hf⟩ := bind_s hf
        refine g0_cV (rm := (0, 0)) (As := [.int w7_2]) (rest := []) ⟨hx, hb, hml, hown, hts⟩ hG hR hS (m1_one l G K (ov I [(1, o, rr1.1), (2, o, rr1.2), (33, o, i_hookMany), (34, o, i_bestWay)]) J X (ova A [((o + 1), a_tape), ((o + 78), a_hooked), ((o + 79), a_bestHooks)]) B Q o sh_o w7_2 a_tape (ova_get 0 hN_A rfl) rr10 hrr10) (cwV 1 hts gi_X1_311 rfl rfl rfl hd_X1_one ⟨Nat.le_of_ble_eq_true rfl, Nat.le_of_ble_eq_true rfl⟩) sh_o.1 rfl rfl hl.1 (Nat.le_of_ble_eq_true rfl) dX1_hooks_48 ⟨Nat.le_refl _, Nat.le_refl _⟩ rfl (fun H locs hR hS => ?_)
        refine lv_bipush (v := 99) hx hb dX1_hooks_51 lb_99 ?_
        refine lv_icmp_gt (tgt := 75) hx hb dX1_hooks_53 (by decide) (fun c11 => ?_) (fun c11 => ?_)
        · have hf := ite_t c11 hf
          refine lv_iconst (v := -1) hx hb dX1_hooks_75 li_m1 ?_
          obtain rfl := some_i hf
          replace hk7 : _ = rl7 := hk7
          subst hk7
          exact hx7_1 ((-1 : Int32), rr1.1, rr1.2, i_hookMany, i_bestWay, a_hooked, a_bestHooks) (el_r hfo7) _ _ _ _ dX1_hooks_76 hR hS
        · have hf := ite_f c11 hf
          refine lv_iload_n hx hb dX1_hooks_56 rfl (lv_at hl 2 rfl) ?_
          have hj77 : ∀ (_ : Unit), f1_hooks_j77 w7_2 = some o7 → ∀ (H : Heap) (locs : List Loc) (ls : Array Slot), RS G K (ov I [(1, o, rr1.1), (2, o, rr1.2), (33, o, i_hookMany), (34, o, i_bestWay)]) J X (ova A [((o + 1), a_tape), ((o + 78), a_hooked), ((o + 79), a_bestHooks)]) B Q H → va_S (gA G) s.heap H locs → lv_has ls 3 [(0, .ref o), (1, .int p1), (2, .int w7_2)] → W p l e ({ frames := 11, cells := 0, slots := 0, locals := 262 } : Room) s m args below meth c H locs 0 0 Z (F0 m 77 ls []) := by
            intro _ hf H locs ls hR hS hl
            unfold f1_hooks_j77 at hf
            obtain ⟨v12, ev12, hf⟩ := lt_some hf
            refine lv_iinc (k := 2) (v := v12) (lv' := [(2, .int v12), (0, .ref o), (1, .int p1)]) hx hb dX1_hooks_77 hl rfl (by rw [ev12]; rfl) (by decide) rfl (fun ls hl => ?_)
            refine lv_goto (tgt := 38) hx hb dX1_hooks_80 (by decide) ?_
            obtain rfl := some_i hf
            exact hk7 _ _ _ hR hS (lv_sub hl [1, 2, 0] rfl)
          refine lv_if_le (tgt := 77) hx hb dX1_hooks_57 (by decide) (fun c13 => ?_) (fun c13 => ?_)
          · have hf := ite_t c13 hf
            exact hj77 () hf _ _ _ hR hS (lv_sub hl [0, 1, 2] rfl)
          · have hf := ite_f c13 hf
            refine lv_aload_n hx hb dX1_hooks_60 rfl (lv_at hl 0 rfl) ?_
            refine lv_iload_n hx hb dX1_hooks_61 rfl (lv_at hl 2 rfl) ?_
            obtain ⟨rr14, hrr14, hf⟩ := bind_s hf
            refine g0_cV (rm := (0, 0)) (As := [.int w7_2]) (rest := []) ⟨hx, hb, hml, hown, hts⟩ hG hR hS (m1_one l G K (ov I [(1, o, rr1.1), (2, o, rr1.2), (33, o, i_hookMany), (34, o, i_bestWay)]) J X (ova A [((o + 1), a_tape), ((o + 78), a_hooked), ((o + 79), a_bestHooks)]) B Q o sh_o w7_2 a_tape (ova_get 0 hN_A rfl) rr14 hrr14) (cwV 1 hts gi_X1_311 rfl rfl rfl hd_X1_one ⟨Nat.le_of_ble_eq_true rfl, Nat.le_of_ble_eq_true rfl⟩) sh_o.1 rfl rfl hl.1 (Nat.le_of_ble_eq_true rfl) dX1_hooks_62 ⟨Nat.le_refl _, Nat.le_refl _⟩ rfl (fun H locs hR hS => ?_)
            refine lv_aload_n hx hb dX1_hooks_65 rfl (lv_at hl 0 rfl) ?_
            refine lv_iload_n hx hb dX1_hooks_66 rfl (lv_at hl 2 rfl) ?_
            refine lv_iconst (v := 1) hx hb dX1_hooks_67 li_1 ?_
            obtain ⟨v15, ev15, hf⟩ := lt_some hf
            refine n_isub hx hb ev15 dX1_hooks_68 ?_
            obtain ⟨rr16, hrr16, hf⟩ := bind_s hf
            refine g0_cV (rm := (0, 0)) (As := [.int v15]) (rest := [.int rr14]) ⟨hx, hb, hml, hown, hts⟩ hG hR hS (m1_one l G K (ov I [(1, o, rr1.1), (2, o, rr1.2), (33, o, i_hookMany), (34, o, i_bestWay)]) J X (ova A [((o + 1), a_tape), ((o + 78), a_hooked), ((o + 79), a_bestHooks)]) B Q o sh_o v15 a_tape (ova_get 0 hN_A rfl) rr16 hrr16) (cwV 1 hts gi_X1_311 rfl rfl rfl hd_X1_one ⟨Nat.le_of_ble_eq_true rfl, Nat.le_of_ble_eq_true rfl⟩) sh_o.1 rfl rfl hl.1 (Nat.le_of_ble_eq_true rfl) dX1_hooks_69 ⟨Nat.le_refl _, Nat.le_refl _⟩ rfl (fun H locs hR hS => ?_)
            refine lv_icmp_gt (tgt := 77) hx hb dX1_hooks_72 (by decide) (fun c17 => ?_) (fun c17 => ?_)
            · have hf := ite_t c17 hf
              exact hj77 () hf _ _ _ hR hS (lv_sub hl [0, 1, 2] rfl)
            · have hf := ite_f c17 hf
              refine lv_iconst (v := -1) hx hb dX1_hooks_75 li_m1 ?_
              obtain rfl := some_i hf
              replace hk7 : _ = rl7 := hk7
              subst hk7
              exact hx7_1 ((-1 : Int32), rr1.1, rr1.2, i_hookMany, i_bestWay, a_hooked, a_bestHooks) (el_r hfo7) _ _ _ _ dX1_hooks_76 hR hS
    · have hf := ite_t c6 hf
      refine lv_iconst (v := -1) hx hb dX1_hooks_34 li_m1 ?_
      obtain rfl := some_i hf
      exact hend _ _ _ _ dX1_hooks_35 hR hS
noncomputable def f1_tries_3_e2_0 (x2_0 : Unit) : Option (Int32 × Int32 × (Option Nat) × (Nat → Int32) × (Nat → Int32) × (Nat → Int32) × (Nat → Int32) × (Nat → Int32)) :=
  none

noncomputable def f1_tries_3_j151 (w2_5 : Int32) (j151_4 : Int32) : Option ((Int32 × Int32) ⊕ (Unit)) :=
  lt (w2_5 + (1 : Int32)) fun v7 =>
  some (.inl (j151_4, v7))

noncomputable def f1_tries_3_s2 (a_o107_burns : Nat → Int32) (w2_4 : Int32) (w2_5 : Int32) : Option ((Int32 × Int32) ⊕ (Unit)) :=
  if (64 : Int32) ≤ w2_5 then
    some (.inr ())
  else
    if (8 : Int32) ≤ w2_4 then
      some (.inr ())
    else
      gd (inb w2_5 64) <|
      lt (a_o107_burns w2_5.toNatClampNeg) fun v6 =>
      if v6 = 0 then
        f1_tries_3_j151 w2_5 w2_4
      else
        lt (w2_4 + (1 : Int32)) fun v9 =>
        gd (¬ (8 : Int32) = 0) <|
        lt (w2_5 / (8 : Int32)) fun v10 =>
        lt ((10 : Int32) * v10) fun v12 =>
        lt ((100 : Int32) + v12) fun v13 =>
        gd (¬ (8 : Int32) = 0) <|
        lt (w2_5 - w2_5 / (8 : Int32) * (8 : Int32)) fun v14 =>
        lt (v13 + v14) fun v16 =>
        none

noncomputable def f1_tries_3_e18_0 (i_leastLost : Int32) (a_aims : Nat → Int32) (a_bestAims : Nat → Int32) (y : Nat) (x18_0 : Int32 × (Nat → Int32) × (Nat → Int32) × (Nat → Int32) × (Nat → Int32)) : Option (Int32 × Int32 × (Option Nat) × (Nat → Int32) × (Nat → Int32) × (Nat → Int32) × (Nat → Int32) × (Nat → Int32)) :=
  if x18_0.1 < i_leastLost then
    gd (cp_ok (0 : Int32) (0 : Int32) (3 : Int32) 3 3) <|
    lt (va_cpy a_aims a_bestAims (0 : Int32).toNatClampNeg (0 : Int32).toNatClampNeg (3 : Int32).toNatClampNeg) fun u21 =>
    some (x18_0.1, x18_0.1, (some y), x18_0.2.1, x18_0.2.2.1, x18_0.2.2.2.1, x18_0.2.2.2.2, u21)
  else
    some (i_leastLost, x18_0.1, (some y), x18_0.2.1, x18_0.2.2.1, x18_0.2.2.2.1, x18_0.2.2.2.2, a_bestAims)

noncomputable def f1_tries_3_s18 (i_y_columns : Int32) (i_y_rows : Int32) (i_y_wind : Int32) (w18_4 : Int32) (w18_i_o85_lost : Int32) (w18_a_o85_fuel : Nat → Int32) (w18_a_o85_wet : Nat → Int32) (w18_a_o85_heat : Nat → Int32) (w18_a_o85_burns : Nat → Int32) : Option ((Int32 × Int32 × (Nat → Int32) × (Nat → Int32) × (Nat → Int32) × (Nat → Int32)) ⊕ (Int32 × (Nat → Int32) × (Nat → Int32) × (Nat → Int32) × (Nat → Int32))) :=
  if (20 : Int32) ≤ w18_4 then
    some (.inr (w18_i_o85_lost, w18_a_o85_fuel, w18_a_o85_wet, w18_a_o85_heat, w18_a_o85_burns))
  else
    (f12_minute (-1 : Int32) (0 : Int32) i_y_columns i_y_rows i_y_wind w18_i_o85_lost w18_a_o85_fuel w18_a_o85_wet w18_a_o85_heat w18_a_o85_burns).bind fun rr23 =>
    lt (w18_4 + (1 : Int32)) fun v24 =>
    some (.inl (v24, rr23.1, rr23.2.1, rr23.2.2.1, rr23.2.2.2.1, rr23.2.2.2.2))

noncomputable def f1_tries_3 (p2 : Int32) (p3 : Int32) (y : Nat) (i_leastLost : Int32) (i_y_columns : Int32) (i_y_rows : Int32) (i_y_wind : Int32) (i_o85_lost : Int32) (i_o107_lost : Int32) (x0_o85_yard : Option Nat) (a_o85_fuel : Nat → Int32) (a_o85_wet : Nat → Int32) (a_o85_heat : Nat → Int32) (a_o85_burns : Nat → Int32) (a_o107_fuel : Nat → Int32) (a_o107_wet : Nat → Int32) (a_o107_burns : Nat → Int32) (a_aims : Nat → Int32) (a_bestAims : Nat → Int32) : Option (Int32 × Int32 × (Option Nat) × (Nat → Int32) × (Nat → Int32) × (Nat → Int32) × (Nat → Int32) × (Nat → Int32)) :=
  if (3 : Int32) = p2 then
    (f12_be i_o107_lost i_o85_lost a_o107_fuel a_o107_wet a_o107_burns a_o85_fuel a_o85_wet a_o85_burns).bind fun rr17 =>
    (whl (fun (s18 : Int32 × Int32 × (Nat → Int32) × (Nat → Int32) × (Nat → Int32) × (Nat → Int32)) => f1_tries_3_s18 i_y_columns i_y_rows i_y_wind s18.1 s18.2.1 s18.2.2.1 s18.2.2.2.1 s18.2.2.2.2.1 s18.2.2.2.2.2) FU ((3 : Int32), rr17.1, rr17.2.1, rr17.2.2.1, a_o85_heat, rr17.2.2.2)).bind fun rl18 =>
    f1_tries_3_e18_0 i_leastLost a_aims a_bestAims y rl18
  else
    (whl (fun (s2 : Int32 × Int32) => f1_tries_3_s2 a_o107_burns s2.1 s2.2) FU ((0 : Int32), (0 : Int32))).bind fun rl2 =>
    f1_tries_3_e2_0 rl2
set_option maxHeartbeats 4000000 in
theorem m1_tries_3 (l : Launch) (G : gG) (K : gK) (I : gI) (J : gJ) (X : gX) (A : gI) (B : gJ) (Q : gX) (o : Nat) (y : Nat) (sh_o : Sh K X o 0 rows0) (sh_y : Sh K X y 3 rows3) (sh_o85 : Sh K X (o + 85) 9 rows9) (sh_o107 : Sh K X (o + 107) 9 rows9) (x_o107_yard : X 904 (o + 107) = some y) (x_o_tried : X 36 o = some (o + 85)) (q_st3 : Q (o + 91) (Int32.toNatClampNeg 3) = some (o + 107)) (p2 : Int32) (p3 : Int32) (i_leastLost : Int32) (i_y_columns : Int32) (i_y_rows : Int32) (i_y_wind : Int32) (i_o85_lost : Int32) (i_o107_lost : Int32) (x0_o85_yard : Option Nat) (a_o85_fuel : Nat → Int32) (a_o85_wet : Nat → Int32) (a_o85_heat : Nat → Int32) (a_o85_burns : Nat → Int32) (a_o107_fuel : Nat → Int32) (a_o107_wet : Nat → Int32) (a_o107_burns : Nat → Int32) (a_aims : Nat → Int32) (a_bestAims : Nat → Int32) (e_i_leastLost : I 44 o = i_leastLost) (e_i_y_columns : I 304 y = i_y_columns) (e_i_y_rows : I 305 y = i_y_rows) (e_i_y_wind : I 314 y = i_y_wind) (e_i_o85_lost : I 905 (o + 85) = i_o85_lost) (e_i_o107_lost : I 905 (o + 107) = i_o107_lost) (e_x0_o85_yard : X 904 (o + 85) = x0_o85_yard) (e_a_o85_fuel : A (o + 86) = a_o85_fuel) (e_a_o85_wet : A (o + 87) = a_o85_wet) (e_a_o85_heat : A (o + 88) = a_o85_heat) (e_a_o85_burns : A (o + 89) = a_o85_burns) (e_a_o107_fuel : A (o + 108) = a_o107_fuel) (e_a_o107_wet : A (o + 109) = a_o107_wet) (e_a_o107_burns : A (o + 111) = a_o107_burns) (e_a_aims : A (o + 112) = a_aims) (e_a_bestAims : A (o + 113) = a_bestAims) (out : Int32 × Int32 × (Option Nat) × (Nat → Int32) × (Nat → Int32) × (Nat → Int32) × (Nat → Int32) × (Nat → Int32)) (hf : f1_tries_3 p2 p3 y i_leastLost i_y_columns i_y_rows i_y_wind i_o85_lost i_o107_lost x0_o85_yard a_o85_fuel a_o85_wet a_o85_heat a_o85_burns a_o107_fuel a_o107_wet a_o107_burns a_aims a_bestAims = some out) : GMet l yX1_tries cX1_tries 6 none (5) (115) G [.ref o, .int (3 : Int32), .int p2, .int p3] K I J X A B Q none K (ov I [(44, o, out.1), (905, (o + 85), out.2.1)]) J (ov X [(904, (o + 85), out.2.2.1)]) (ova A [((o + 86), out.2.2.2.1), ((o + 87), out.2.2.2.2.1), ((o + 88), out.2.2.2.2.2.1), ((o + 89), out.2.2.2.2.2.2.1), ((o + 108), a_o107_fuel), ((o + 109), a_o107_wet), ((o + 111), a_o107_burns), ((o + 112), a_aims), ((o + 113), out.2.2.2.2.2.2.2)]) B Q 0 0 := by
  refine GMet.of (y := yX1_tries) rfl (Nat.le_of_ble_eq_true rfl) rfl ?_
  intro p e s m below meth c ls hx hb hr hml hlocks hts hown hname hG hR hl
  have hown : s.vm.findClass RX1 = some m.cls := hown
  have k_a_o85_fuel : K (o + 86) = some (.inr (0, 64)) := (sh_o85.2 0 _ rfl).1
  have k_a_o85_wet : K (o + 87) = some (.inr (0, 64)) := (sh_o85.2 1 _ rfl).1
  have k_a_o85_heat : K (o + 88) = some (.inr (0, 64)) := (sh_o85.2 2 _ rfl).1
  have k_a_o85_burns : K (o + 89) = some (.inr (1, 64)) := (sh_o85.2 3 _ rfl).1
  have k_a_o107_fuel : K (o + 108) = some (.inr (0, 64)) := (sh_o107.2 0 _ rfl).1
  have k_a_o107_wet : K (o + 109) = some (.inr (0, 64)) := (sh_o107.2 1 _ rfl).1
  have k_a_o107_burns : K (o + 111) = some (.inr (1, 64)) := (sh_o107.2 3 _ rfl).1
  have k_a_aims : K (o + 112) = some (.inr (0, 3)) := (sh_o.2 17 _ rfl).1
  have k_a_bestAims : K (o + 113) = some (.inr (0, 3)) := (sh_o.2 18 _ rfl).1
  have hN_A : nda [(o + 86), (o + 87), (o + 88), (o + 89), (o + 108), (o + 109), (o + 111), (o + 112), (o + 113)] := nd_off o [86, 87, 88, 89, 108, 109, 111, 112, 113] rfl
  have hR : RS G K (ov I [(44, o, i_leastLost), (905, (o + 85), i_o85_lost)]) J (ov X [(904, (o + 85), x0_o85_yard)]) (ova A [((o + 86), a_o85_fuel), ((o + 87), a_o85_wet), ((o + 88), a_o85_heat), ((o + 89), a_o85_burns), ((o + 108), a_o107_fuel), ((o + 109), a_o107_wet), ((o + 111), a_o107_burns), ((o + 112), a_aims), ((o + 113), a_bestAims)]) B Q s.heap := hR.to (Eq.symm (ov_sc e_i_leastLost (ov_sc e_i_o85_lost rfl))) rfl (Eq.symm (ov_sc e_x0_o85_yard rfl)) (Eq.symm (ova_sc e_a_o85_fuel (ova_sc e_a_o85_wet (ova_sc e_a_o85_heat (ova_sc e_a_o85_burns (ova_sc e_a_o107_fuel (ova_sc e_a_o107_wet (ova_sc e_a_o107_burns (ova_sc e_a_aims (ova_sc e_a_bestAims rfl)))))))))) rfl rfl
  have hS : va_S (gA G) s.heap s.heap [] := va_S.rf
  have hend : ∀ (pc : Nat) (H : Heap) (locs : List Loc) (ls : Array Slot), decode cX1_tries pc = .ok (.return_, 1) → RS G K (ov I [(44, o, out.1), (905, (o + 85), out.2.1)]) J (ov X [(904, (o + 85), out.2.2.1)]) (ova A [((o + 86), out.2.2.2.1), ((o + 87), out.2.2.2.2.1), ((o + 88), out.2.2.2.2.2.1), ((o + 89), out.2.2.2.2.2.2.1), ((o + 108), a_o107_fuel), ((o + 109), a_o107_wet), ((o + 111), a_o107_burns), ((o + 112), a_aims), ((o + 113), out.2.2.2.2.2.2.2)]) B Q H → va_S (gA G) s.heap H locs → W p l e ({ frames := 5, cells := 0, slots := 0, locals := 115 } : Room) s m ([.ref o, .int (3 : Int32), .int p2, .int p3] : List Value).toArray below meth c H locs 0 0 (MQ below (gQ G none K (ov I [(44, o, out.1), (905, (o + 85), out.2.1)]) J (ov X [(904, (o + 85), out.2.2.1)]) (ova A [((o + 86), out.2.2.2.1), ((o + 87), out.2.2.2.2.1), ((o + 88), out.2.2.2.2.2.1), ((o + 89), out.2.2.2.2.2.2.1), ((o + 108), a_o107_fuel), ((o + 109), a_o107_wet), ((o + 111), a_o107_burns), ((o + 112), a_aims), ((o + 113), out.2.2.2.2.2.2.2)]) B Q) ([.ref o, .int (3 : Int32), .int p2, .int p3] : List Value).toArray s 0 0 (gA G)) (F0 m pc ls []) := fun pc H locs ls hd hR hS => g_vret hx hb hr hlocks hG hR hS rfl hd
  generalize MQ below (gQ G none K (ov I [(44, o, out.1), (905, (o + 85), out.2.1)]) J (ov X [(904, (o + 85), out.2.2.1)]) (ova A [((o + 86), out.2.2.2.1), ((o + 87), out.2.2.2.2.1), ((o + 88), out.2.2.2.2.2.1), ((o + 89), out.2.2.2.2.2.2.1), ((o + 108), a_o107_fuel), ((o + 109), a_o107_wet), ((o + 111), a_o107_burns), ((o + 112), a_aims), ((o + 113), out.2.2.2.2.2.2.2)]) B Q) ([.ref o, .int (3 : Int32), .int p2, .int p3] : List Value).toArray s 0 0 (gA G) = Z at hend ⊢
  generalize ([.ref o, .int (3 : Int32), .int p2, .int p3] : List Value).toArray = args at hts hend ⊢
  unfold f1_tries_3 at hf
  refine lv_iload_n hx hb dX1_tries_0 rfl (lv_at hl 1 rfl) ?_
  refine lv_iload_n hx hb dX1_tries_1 rfl (lv_at hl 2 rfl) ?_
  refine lv_icmp_ne (tgt := 84) hx hb dX1_tries_2 (by decide) (fun c1 => ?_) (fun c1 => ?_)
  · have hf := ite_f c1 hf
    refine lv_iconst (v := 0) hx hb dX1_tries_84 li_0 ?_
    refine lv_istore (lv' := [(4, .int (0 : Int32)), (0, .ref o), (1, .int (3 : Int32)), (2, .int p2), (3, .int p3)]) hx hb dX1_tries_85 hl (by decide) rfl (fun ls hl => ?_)
    refine lv_iconst (v := 0) hx hb dX1_tries_87 li_0 ?_
    refine lv_istore (lv' := [(5, .int (0 : Int32)), (4, .int (0 : Int32)), (0, .ref o), (1, .int (3 : Int32)), (2, .int p2), (3, .int p3)]) hx hb dX1_tries_88 hl (by decide) rfl (fun ls hl => ?_)
    obtain ⟨rl2, hw2, hfo2⟩ := bind_s hf
    have hx2_0 : ∀ (x2_0 : Unit), f1_tries_3_e2_0 x2_0 = some out → ∀ (H : Heap) (locs : List Loc) (ls : Array Slot), RS G K (ov I [(44, o, i_leastLost), (905, (o + 85), i_o85_lost)]) J (ov X [(904, (o + 85), x0_o85_yard)]) (ova A [((o + 86), a_o85_fuel), ((o + 87), a_o85_wet), ((o + 88), a_o85_heat), ((o + 89), a_o85_burns), ((o + 108), a_o107_fuel), ((o + 109), a_o107_wet), ((o + 111), a_o107_burns), ((o + 112), a_aims), ((o + 113), a_bestAims)]) B Q H → va_S (gA G) s.heap H locs → lv_has ls 6 [(0, .ref o), (1, .int (3 : Int32)), (2, .int p2), (3, .int p3)] → W p l e ({ frames := 5, cells := 0, slots := 0, locals := 115 } : Room) s m args below meth c H locs 0 0 Z (F0 m 157 ls []) := by
      intro x2_0 hf H locs ls hR hS hl
      unfold f1_tries_3_e2_0 at hf
      refine lv_aload_n hx hb dX1_tries_157 rfl (lv_at hl 0 rfl) ?_
      refine lv_iload_n hx hb dX1_tries_158 rfl (lv_at hl 1 rfl) ?_
      refine lv_iload_n hx hb dX1_tries_159 rfl (lv_at hl 2 rfl) ?_
      refine lv_iload_n hx hb dX1_tries_160 rfl (lv_at hl 3 rfl) ?_
      refine lv_iconst (v := -1) hx hb dX1_tries_161 li_m1 ?_
      refine lv_iconst (v := 0) hx hb dX1_tries_162 li_0 ?_
      cases hf
    refine whl_walk (P := fun (s2 : Int32 × Int32) => ∀ (H : Heap) (locs : List Loc) (ls : Array Slot), RS G K (ov I [(44, o, i_leastLost), (905, (o + 85), i_o85_lost)]) J (ov X [(904, (o + 85), x0_o85_yard)]) (ova A [((o + 86), a_o85_fuel), ((o + 87), a_o85_wet), ((o + 88), a_o85_heat), ((o + 89), a_o85_burns), ((o + 108), a_o107_fuel), ((o + 109), a_o107_wet), ((o + 111), a_o107_burns), ((o + 112), a_aims), ((o + 113), a_bestAims)]) B Q H → va_S (gA G) s.heap H locs → lv_has ls 6 [(0, .ref o), (1, .int (3 : Int32)), (2, .int p2), (3, .int p3), (4, .int s2.1), (5, .int s2.2)] → W p l e ({ frames := 5, cells := 0, slots := 0, locals := 115 } : Room) s m args below meth c H locs 0 0 Z (F0 m 90 ls [])) (r := rl2) ?_ FU _ hw2 _ _ _ hR hS (lv_sub hl [2, 3, 4, 5, 1, 0] rfl)
    clear hR hS hl hf
    intro s2 o2 hf hk2 H locs ls hR hS hl
    obtain ⟨w2_4, w2_5⟩ := s2
    have hf : f1_tries_3_s2 a_o107_burns w2_4 w2_5 = some o2 := hf
    have hR : RS G K (ov I [(44, o, i_leastLost), (905, (o + 85), i_o85_lost)]) J (ov X [(904, (o + 85), x0_o85_yard)]) (ova A [((o + 86), a_o85_fuel), ((o + 87), a_o85_wet), ((o + 88), a_o85_heat), ((o + 89), a_o85_burns), ((o + 108), a_o107_fuel), ((o + 109), a_o107_wet), ((o + 111), a_o107_burns), ((o + 112), a_aims), ((o + 113), a_bestAims)]) B Q H := hR
    have hl : lv_has ls 6 [(0, .ref o), (1, .int (3 : Int32)), (2, .int p2), (3, .int p3), (4, .int w2_4), (5, .int w2_5)] := hl
    unfold f1_tries_3_s2 at hf
    refine lv_iload hx hb dX1_tries_90 (lv_at hl 5 rfl) ?_
    refine lv_bipush (v := 64) hx hb dX1_tries_92 lb_64 ?_
    refine lv_icmp_ge (tgt := 157) hx hb dX1_tries_94 (by decide) (fun c3 => ?_) (fun c3 => ?_)
    · have hf := ite_t c3 hf
      obtain rfl := some_i hf
      replace hk2 : _ = rl2 := hk2
      subst hk2
      exact hx2_0 () hfo2 _ _ _ hR hS (lv_sub hl [0, 1, 2, 3] rfl)
    · have hf := ite_f c3 hf
      refine lv_iload hx hb dX1_tries_97 (lv_at hl 4 rfl) ?_
      refine lv_bipush (v := 8) hx hb dX1_tries_99 lb_8 ?_
      refine lv_icmp_ge (tgt := 157) hx hb dX1_tries_101 (by decide) (fun c4 => ?_) (fun c4 => ?_)
      · have hf := ite_t c4 hf
        obtain rfl := some_i hf
        replace hk2 : _ = rl2 := hk2
        subst hk2
        exact hx2_0 () hfo2 _ _ _ hR hS (lv_sub hl [0, 1, 2, 3] rfl)
      · have hf := ite_f c4 hf
        refine lv_aload_n hx hb dX1_tries_104 rfl (lv_at hl 0 rfl) ?_
        refine g_getr (b := (o + 91)) hx hb hts hown hG hR gFx_X1_180_0 sh_o.1 ((congrFun (ov_no rfl) _).trans ((sh_o.2 16 _ rfl).2)) dX1_tries_105 ?_
        refine lv_iload_n hx hb dX1_tries_108 rfl (lv_at hl 1 rfl) ?_
        refine g_aaldr (b := (o + 107)) hx hb hG hR (t := 2) ((sh_o.2 16 _ rfl).1) (by decide) (show inb 3 4 by decide) q_st3 dX1_tries_109 ?_
        refine g_getr (b := (o + 111)) hx hb hts hown hG hR gFx_X1_463_9 sh_o107.1 ((congrFun (ov_no rfl) _).trans ((sh_o107.2 3 _ rfl).2)) dX1_tries_110 ?_
        refine lv_iload hx hb dX1_tries_113 (lv_at hl 5 rfl) ?_
        obtain ⟨c5, hf⟩ := gd_some hf
        obtain ⟨v6, ev6, hf⟩ := lt_some hf
        refine n_zald (x := a_o107_burns) hx hb hG hR k_a_o107_burns c5 (ova_get 6 hN_A rfl) ev6 dX1_tries_115 ?_
        have hj151 : ∀ (j151_4 : Int32), f1_tries_3_j151 w2_5 j151_4 = some o2 → ∀ (H : Heap) (locs : List Loc) (ls : Array Slot), RS G K (ov I [(44, o, i_leastLost), (905, (o + 85), i_o85_lost)]) J (ov X [(904, (o + 85), x0_o85_yard)]) (ova A [((o + 86), a_o85_fuel), ((o + 87), a_o85_wet), ((o + 88), a_o85_heat), ((o + 89), a_o85_burns), ((o + 108), a_o107_fuel), ((o + 109), a_o107_wet), ((o + 111), a_o107_burns), ((o + 112), a_aims), ((o + 113), a_bestAims)]) B Q H → va_S (gA G) s.heap H locs → lv_has ls 6 [(0, .ref o), (1, .int (3 : Int32)), (2, .int p2), (3, .int p3), (4, .int j151_4), (5, .int w2_5)] → W p l e ({ frames := 5, cells := 0, slots := 0, locals := 115 } : Room) s m args below meth c H locs 0 0 Z (F0 m 151 ls []) := by
          intro j151_4 hf H locs ls hR hS hl
          unfold f1_tries_3_j151 at hf
          obtain ⟨v7, ev7, hf⟩ := lt_some hf
          refine lv_iinc (k := 5) (v := v7) (lv' := [(5, .int v7), (0, .ref o), (1, .int (3 : Int32)), (2, .int p2), (3, .int p3), (4, .int j151_4)]) hx hb dX1_tries_151 hl rfl (by rw [ev7]; rfl) (by decide) rfl (fun ls hl => ?_)
          refine lv_goto (tgt := 90) hx hb dX1_tries_154 (by decide) ?_
          obtain rfl := some_i hf
          exact hk2 _ _ _ hR hS (lv_sub hl [1, 2, 3, 4, 5, 0] rfl)
        refine lv_if_ne (tgt := 122) hx hb dX1_tries_116 (by decide) (fun c8 => ?_) (fun c8 => ?_)
        · have hf := ite_f c8 hf
          obtain ⟨v9, ev9, hf⟩ := lt_some hf
          refine lv_iinc (k := 4) (v := v9) (lv' := [(4, .int v9), (0, .ref o), (1, .int (3 : Int32)), (2, .int p2), (3, .int p3), (5, .int w2_5)]) hx hb dX1_tries_122 hl rfl (by rw [ev9]; rfl) (by decide) rfl (fun ls hl => ?_)
          refine lv_aload_n hx hb dX1_tries_125 rfl (lv_at hl 1 rfl) ?_
          refine lv_iload_n hx hb dX1_tries_126 rfl (lv_at hl 2 rfl) ?_
          refine lv_iload_n hx hb dX1_tries_127 rfl (lv_at hl 3 rfl) ?_
          refine lv_iload_n hx hb dX1_tries_128 rfl (lv_at hl 4 rfl) ?_
          refine lv_iload hx hb dX1_tries_129 (lv_at hl 5 rfl) ?_
          refine lv_bipush (v := 100) hx hb dX1_tries_131 lb_100 ?_
          refine lv_bipush (v := 10) hx hb dX1_tries_133 lb_10 ?_
          refine lv_iload hx hb dX1_tries_135 (lv_at hl 5 rfl) ?_
          refine lv_bipush (v := 8) hx hb dX1_tries_137 lb_8 ?_
          obtain ⟨c11, hf⟩ := gd_some hf
          obtain ⟨v10, ev10, hf⟩ := lt_some hf
          refine n_idiv hx hb c11 ev10 dX1_tries_139 ?_
          obtain ⟨v12, ev12, hf⟩ := lt_some hf
          refine n_imul hx hb ev12 dX1_tries_140 ?_
          obtain ⟨v13, ev13, hf⟩ := lt_some hf
          refine n_iadd hx hb ev13 dX1_tries_141 ?_
          refine lv_iload hx hb dX1_tries_142 (lv_at hl 5 rfl) ?_
          refine lv_bipush (v := 8) hx hb dX1_tries_144 lb_8 ?_
          obtain ⟨c15, hf⟩ := gd_some hf
          obtain ⟨v14, ev14, hf⟩ := lt_some hf
          refine n_irem hx hb c15 ev14 dX1_tries_146 ?_
          obtain ⟨v16, ev16, hf⟩ := lt_some hf
          refine n_iadd hx hb ev16 dX1_tries_147 ?_
          cases hf
        · have hf := ite_t c8 hf
          refine lv_goto (tgt := 151) hx hb dX1_tries_119 (by decide) ?_
          exact hj151 w2_4 hf _ _ _ hR hS (lv_sub hl [0, 1, 2, 3, 4, 5] rfl)
  · have hf := ite_t c1 hf
    refine lv_aload_n hx hb dX1_tries_5 rfl (lv_at hl 0 rfl) ?_
    refine g_getr (b := (o + 85)) hx hb hts hown hG hR gFx_X1_173_0 sh_o.1 ((congrFun (ov_no rfl) _).trans x_o_tried) dX1_tries_6 ?_
    refine lv_aload_n hx hb dX1_tries_9 rfl (lv_at hl 0 rfl) ?_
    refine g_getr (b := (o + 91)) hx hb hts hown hG hR gFx_X1_180_0 sh_o.1 ((congrFun (ov_no rfl) _).trans ((sh_o.2 16 _ rfl).2)) dX1_tries_10 ?_
    refine lv_iload_n hx hb dX1_tries_13 rfl (lv_at hl 1 rfl) ?_
    refine g_aaldr (b := (o + 107)) hx hb hG hR (t := 2) ((sh_o.2 16 _ rfl).1) (by decide) (show inb 3 4 by decide) q_st3 dX1_tries_14 ?_
    obtain ⟨rr17, hrr17, hf⟩ := bind_s hf
    refine g0_cVv (rm := (1, 26)) (As := [.ref (o + 107)]) (rest := []) ⟨hx, hb, hml, hown, hts⟩ hG hR hS (m12_be l G K (ov I [(44, o, i_leastLost), (905, (o + 85), i_o85_lost)]) J (ov X [(904, (o + 85), x0_o85_yard)]) (ova A [((o + 86), a_o85_fuel), ((o + 87), a_o85_wet), ((o + 88), a_o85_heat), ((o + 89), a_o85_burns), ((o + 108), a_o107_fuel), ((o + 109), a_o107_wet), ((o + 111), a_o107_burns), ((o + 112), a_aims), ((o + 113), a_bestAims)]) B Q (o + 85) (o + 107) y (Sh.ov rfl sh_o85) (Sh.ov rfl sh_o107) (Sh.ov rfl sh_y) ((ov_ne (List.forall_mem_cons.mpr ⟨Or.inr (by show (o + 85) ≠ (o + 107); omega), fun _ h => absurd h List.not_mem_nil⟩)).trans x_o107_yard) (by omega) i_o107_lost i_o85_lost x0_o85_yard a_o107_fuel a_o107_wet a_o107_burns a_o85_fuel a_o85_wet a_o85_burns ((ov_ne (List.forall_mem_cons.mpr ⟨Or.inl (by show (44 : Nat) ≠ 905; decide), List.forall_mem_cons.mpr ⟨Or.inr (by show (o + 85) ≠ (o + 107); omega), fun _ h => absurd h List.not_mem_nil⟩⟩)).trans e_i_o107_lost) (ov_get 1 rfl rfl) (ov_get 0 rfl rfl) (ova_get 4 hN_A rfl) (ova_get 5 hN_A rfl) (ova_get 6 hN_A rfl) (ova_get 0 hN_A rfl) (ova_get 1 hN_A rfl) (ova_get 3 hN_A rfl) rr17 hrr17) (cwV 1 hts gi_X1_450 rfl rfl rfl hd_X12_be ⟨Nat.le_of_ble_eq_true rfl, Nat.le_of_ble_eq_true rfl⟩) sh_o85.1 rfl rfl hl.1 (Nat.le_of_ble_eq_true rfl) dX1_tries_15 ⟨Nat.le_refl _, Nat.le_refl _⟩ rfl (fun H locs hR hS => ?_)
    have hR : RS G K (ov I [(44, o, i_leastLost), (905, (o + 85), rr17.1)]) J (ov X [(904, (o + 85), (some y))]) (ova A [((o + 86), rr17.2.1), ((o + 87), rr17.2.2.1), ((o + 88), a_o85_heat), ((o + 89), rr17.2.2.2), ((o + 108), a_o107_fuel), ((o + 109), a_o107_wet), ((o + 111), a_o107_burns), ((o + 112), a_aims), ((o + 113), a_bestAims)]) B Q H := hR.to (ov_merge (l := [(44, o, i_leastLost), (905, (o + 85), i_o85_lost)]) rfl [1] [(905, (o + 85), rr17.1)] rfl rfl) rfl (ov_merge (l := [(904, (o + 85), x0_o85_yard)]) rfl [0] [(904, (o + 85), (some y))] rfl rfl) (ova_merge (l := [((o + 86), a_o85_fuel), ((o + 87), a_o85_wet), ((o + 88), a_o85_heat), ((o + 89), a_o85_burns), ((o + 108), a_o107_fuel), ((o + 109), a_o107_wet), ((o + 111), a_o107_burns), ((o + 112), a_aims), ((o + 113), a_bestAims)]) hN_A [4, 5, 6, 0, 1, 3] [((o + 108), a_o107_fuel), ((o + 109), a_o107_wet), ((o + 111), a_o107_burns), ((o + 86), rr17.2.1), ((o + 87), rr17.2.2.1), ((o + 89), rr17.2.2.2)] rfl rfl) rfl rfl
    refine lv_iload_n hx hb dX1_tries_18 rfl (lv_at hl 1 rfl) ?_
    refine lv_istore (lv' := [(4, .int (3 : Int32)), (0, .ref o), (1, .int (3 : Int32)), (2, .int p2), (3, .int p3)]) hx hb dX1_tries_19 hl (by decide) rfl (fun ls hl => ?_)
    obtain ⟨rl18, hw18, hfo18⟩ := bind_s hf
    have hx18_0 : ∀ (x18_0 : Int32 × (Nat → Int32) × (Nat → Int32) × (Nat → Int32) × (Nat → Int32)), f1_tries_3_e18_0 i_leastLost a_aims a_bestAims y x18_0 = some out → ∀ (H : Heap) (locs : List Loc) (ls : Array Slot), RS G K (ov I [(44, o, i_leastLost), (905, (o + 85), x18_0.1)]) J (ov X [(904, (o + 85), (some y))]) (ova A [((o + 86), x18_0.2.1), ((o + 87), x18_0.2.2.1), ((o + 88), x18_0.2.2.2.1), ((o + 89), x18_0.2.2.2.2), ((o + 108), a_o107_fuel), ((o + 109), a_o107_wet), ((o + 111), a_o107_burns), ((o + 112), a_aims), ((o + 113), a_bestAims)]) B Q H → va_S (gA G) s.heap H locs → lv_has ls 6 [(0, .ref o), (1, .int (3 : Int32))] → W p l e ({ frames := 5, cells := 0, slots := 0, locals := 115 } : Room) s m args below meth c H locs 0 0 Z (F0 m 43 ls []) := by
      intro x18_0 hf H locs ls hR hS hl
      unfold f1_tries_3_e18_0 at hf
      refine lv_aload_n hx hb dX1_tries_43 rfl (lv_at hl 0 rfl) ?_
      refine g_getr (b := (o + 85)) hx hb hts hown hG hR gFx_X1_173_0 sh_o.1 ((congrFun (ov_no rfl) _).trans x_o_tried) dX1_tries_44 ?_
      refine n_geti (v := x18_0.1) hx hb hts hown hG hR gFi_X1_459_9 sh_o85.1 (ov_get 1 rfl rfl) dX1_tries_47 ?_
      refine lv_aload_n hx hb dX1_tries_50 rfl (lv_at hl 0 rfl) ?_
      refine n_geti (v := i_leastLost) hx hb hts hown hG hR gFi_X1_469_0 sh_o.1 (ov_get 0 rfl rfl) dX1_tries_51 ?_
      refine lv_icmp_lt (tgt := 58) hx hb dX1_tries_54 (by decide) (fun c19 => ?_) (fun c19 => ?_)
      · have hf := ite_t c19 hf
        refine lv_aload_n hx hb dX1_tries_58 rfl (lv_at hl 0 rfl) ?_
        refine lv_aload_n hx hb dX1_tries_59 rfl (lv_at hl 0 rfl) ?_
        refine g_getr (b := (o + 85)) hx hb hts hown hG hR gFx_X1_173_0 sh_o.1 ((congrFun (ov_no rfl) _).trans x_o_tried) dX1_tries_60 ?_
        refine n_geti (v := x18_0.1) hx hb hts hown hG hR gFi_X1_459_9 sh_o85.1 (ov_get 1 rfl rfl) dX1_tries_63 ?_
        refine n_puti (li' := [(44, o, x18_0.1), (905, (o + 85), x18_0.1)]) hx hb hts hown hG hR hS gPi_X1_469_0 sh_o.1 0 rfl rfl rfl dX1_tries_66 (fun H locs hR hS => ?_)
        refine lv_aload_n hx hb dX1_tries_69 rfl (lv_at hl 0 rfl) ?_
        refine g_getr (b := (o + 112)) hx hb hts hown hG hR gFx_X1_183_0 sh_o.1 ((congrFun (ov_no rfl) _).trans ((sh_o.2 17 _ rfl).2)) dX1_tries_70 ?_
        refine lv_iconst (v := 0) hx hb dX1_tries_73 li_0 ?_
        refine lv_aload_n hx hb dX1_tries_74 rfl (lv_at hl 0 rfl) ?_
        refine g_getr (b := (o + 113)) hx hb hts hown hG hR gFx_X1_186_0 sh_o.1 ((congrFun (ov_no rfl) _).trans ((sh_o.2 18 _ rfl).2)) dX1_tries_75 ?_
        refine lv_iconst (v := 0) hx hb dX1_tries_78 li_0 ?_
        refine lv_iload_n hx hb dX1_tries_79 rfl (lv_at hl 1 rfl) ?_
        obtain ⟨c20, hf⟩ := gd_some hf
        obtain ⟨u21, eu21, hf⟩ := lt_some hf
        refine n_copy (la' := [((o + 86), x18_0.2.1), ((o + 87), x18_0.2.2.1), ((o + 88), x18_0.2.2.2.1), ((o + 89), x18_0.2.2.2.2), ((o + 108), a_o107_fuel), ((o + 109), a_o107_wet), ((o + 111), a_o107_burns), ((o + 112), a_aims), ((o + 113), u21)]) (t := 0) hx hb (hml.trans hl.1.symm) hown (hts _ q1210) (hts _ q1142) (hts _ q1141) (hts _ q126) hG hR hS k_a_aims k_a_bestAims (by decide) rfl rfl c20 7 8 hN_A rfl rfl (fun _ _ => rfl) eu21 rfl (Nat.le_of_ble_eq_true rfl) (Nat.le_of_ble_eq_true rfl) dX1_tries_80 (fun H locs hR hS => ?_)
        obtain rfl := some_i hf
        exact hend _ _ _ _ dX1_tries_83 hR hS
      · have hf := ite_f c19 hf
        obtain rfl := some_i hf
        exact hend _ _ _ _ dX1_tries_57 hR hS
    refine whl_walk (P := fun (s18 : Int32 × Int32 × (Nat → Int32) × (Nat → Int32) × (Nat → Int32) × (Nat → Int32)) => ∀ (H : Heap) (locs : List Loc) (ls : Array Slot), RS G K (ov I [(44, o, i_leastLost), (905, (o + 85), s18.2.1)]) J (ov X [(904, (o + 85), (some y))]) (ova A [((o + 86), s18.2.2.1), ((o + 87), s18.2.2.2.1), ((o + 88), s18.2.2.2.2.1), ((o + 89), s18.2.2.2.2.2), ((o + 108), a_o107_fuel), ((o + 109), a_o107_wet), ((o + 111), a_o107_burns), ((o + 112), a_aims), ((o + 113), a_bestAims)]) B Q H → va_S (gA G) s.heap H locs → lv_has ls 6 [(0, .ref o), (1, .int (3 : Int32)), (4, .int s18.1)] → W p l e ({ frames := 5, cells := 0, slots := 0, locals := 115 } : Room) s m args below meth c H locs 0 0 Z (F0 m 21 ls [])) (r := rl18) ?_ FU _ hw18 _ _ _ hR hS (lv_sub hl [1, 2, 0] rfl)
    clear hR hS hl hf
    intro s18 o18 hf hk18 H locs ls hR hS hl
    obtain ⟨w18_4, w18_i_o85_lost, w18_a_o85_fuel, w18_a_o85_wet, w18_a_o85_heat, w18_a_o85_burns⟩ := s18
    have hf : f1_tries_3_s18 i_y_columns i_y_rows i_y_wind w18_4 w18_i_o85_lost w18_a_o85_fuel w18_a_o85_wet w18_a_o85_heat w18_a_o85_burns = some o18 := hf
    have hR : RS G K (ov I [(44, o, i_leastLost), (905, (o + 85), w18_i_o85_lost)]) J (ov X [(904, (o + 85), (some y))]) (ova A [((o + 86), w18_a_o85_fuel), ((o + 87), w18_a_o85_wet), ((o + 88), w18_a_o85_heat), ((o + 89), w18_a_o85_burns), ((o + 108), a_o107_fuel), ((o + 109), a_o107_wet), ((o + 111), a_o107_burns), ((o + 112), a_aims), ((o + 113), a_bestAims)]) B Q H := hR
    have hl : lv_has ls 6 [(0, .ref o), (1, .int (3 : Int32)), (4, .int w18_4)] := hl
    unfold f1_tries_3_s18 at hf
    refine lv_iload hx hb dX1_tries_21 (lv_at hl 2 rfl) ?_
    refine lv_bipush (v := 20) hx hb dX1_tries_23 lb_20 ?_
    refine lv_icmp_ge (tgt := 43) hx hb dX1_tries_25 (by decide) (fun c22 => ?_) (fun c22 => ?_)
    · have hf := ite_t c22 hf
      obtain rfl := some_i hf
      replace hk18 : _ = rl18 := hk18
      subst hk18
      exact hx18_0 (w18_i_o85_lost, w18_a_o85_fuel, w18_a_o85_wet, w18_a_o85_heat, w18_a_o85_burns) hfo18 _ _ _ hR hS (lv_sub hl [0, 1] rfl)
    · have hf := ite_f c22 hf
      refine lv_aload_n hx hb dX1_tries_28 rfl (lv_at hl 0 rfl) ?_
      refine g_getr (b := (o + 85)) hx hb hts hown hG hR gFx_X1_173_0 sh_o.1 ((congrFun (ov_no rfl) _).trans x_o_tried) dX1_tries_29 ?_
      refine lv_iconst (v := -1) hx hb dX1_tries_32 li_m1 ?_
      refine lv_iconst (v := 0) hx hb dX1_tries_33 li_0 ?_
      obtain ⟨rr23, hrr23, hf⟩ := bind_s hf
      refine g0_cVv (rm := (4, 91)) (As := [.int (-1 : Int32), .int (0 : Int32)]) (rest := []) ⟨hx, hb, hml, hown, hts⟩ hG hR hS (m12_minute l G K (ov I [(44, o, i_leastLost), (905, (o + 85), w18_i_o85_lost)]) J (ov X [(904, (o + 85), (some y))]) (ova A [((o + 86), w18_a_o85_fuel), ((o + 87), w18_a_o85_wet), ((o + 88), w18_a_o85_heat), ((o + 89), w18_a_o85_burns), ((o + 108), a_o107_fuel), ((o + 109), a_o107_wet), ((o + 111), a_o107_burns), ((o + 112), a_aims), ((o + 113), a_bestAims)]) B Q (o + 85) y (Sh.ov rfl sh_o85) (Sh.ov rfl sh_y) (ov_get 0 rfl rfl) (-1 : Int32) (0 : Int32) i_y_columns i_y_rows i_y_wind w18_i_o85_lost w18_a_o85_fuel w18_a_o85_wet w18_a_o85_heat w18_a_o85_burns ((congrFun (ov_no rfl) _).trans e_i_y_columns) ((congrFun (ov_no rfl) _).trans e_i_y_rows) ((congrFun (ov_no rfl) _).trans e_i_y_wind) (ov_get 1 rfl rfl) (ova_get 0 hN_A rfl) (ova_get 1 hN_A rfl) (ova_get 2 hN_A rfl) (ova_get 3 hN_A rfl) rr23 hrr23) (cwV 2 hts gi_X1_457 rfl rfl rfl hd_X12_minute ⟨Nat.le_of_ble_eq_true rfl, Nat.le_of_ble_eq_true rfl⟩) sh_o85.1 rfl rfl hl.1 (Nat.le_of_ble_eq_true rfl) dX1_tries_34 ⟨Nat.le_refl _, Nat.le_refl _⟩ rfl (fun H locs hR hS => ?_)
      have hR : RS G K (ov I [(44, o, i_leastLost), (905, (o + 85), rr23.1)]) J (ov X [(904, (o + 85), (some y))]) (ova A [((o + 86), rr23.2.1), ((o + 87), rr23.2.2.1), ((o + 88), rr23.2.2.2.1), ((o + 89), rr23.2.2.2.2), ((o + 108), a_o107_fuel), ((o + 109), a_o107_wet), ((o + 111), a_o107_burns), ((o + 112), a_aims), ((o + 113), a_bestAims)]) B Q H := hR.to (ov_merge (l := [(44, o, i_leastLost), (905, (o + 85), w18_i_o85_lost)]) rfl [1] [(905, (o + 85), rr23.1)] rfl rfl) rfl rfl (ova_merge (l := [((o + 86), w18_a_o85_fuel), ((o + 87), w18_a_o85_wet), ((o + 88), w18_a_o85_heat), ((o + 89), w18_a_o85_burns), ((o + 108), a_o107_fuel), ((o + 109), a_o107_wet), ((o + 111), a_o107_burns), ((o + 112), a_aims), ((o + 113), a_bestAims)]) hN_A [0, 1, 2, 3] [((o + 86), rr23.2.1), ((o + 87), rr23.2.2.1), ((o + 88), rr23.2.2.2.1), ((o + 89), rr23.2.2.2.2)] rfl rfl) rfl rfl
      obtain ⟨v24, ev24, hf⟩ := lt_some hf
      refine lv_iinc (k := 2) (v := v24) (lv' := [(4, .int v24), (0, .ref o), (1, .int (3 : Int32))]) hx hb dX1_tries_37 hl rfl (by rw [ev24]; rfl) (by decide) rfl (fun ls hl => ?_)
      refine lv_goto (tgt := 21) hx hb dX1_tries_40 (by decide) ?_
      obtain rfl := some_i hf
      exact hk18 _ _ _ hR hS (lv_sub hl [1, 2, 0] rfl)
noncomputable def f1_next_2 (p2 : Int32) (p3 : Int32) (p4 : Int32) (p5 : Int32) (y : Nat) (i_leastLost : Int32) (i_y_columns : Int32) (i_y_rows : Int32) (i_y_wind : Int32) (i_o85_lost : Int32) (i_o102_lost : Int32) (i_o107_lost : Int32) (x0_o85_yard : Option Nat) (x0_o107_yard : Option Nat) (a_o85_fuel : Nat → Int32) (a_o85_wet : Nat → Int32) (a_o85_heat : Nat → Int32) (a_o85_burns : Nat → Int32) (a_o102_fuel : Nat → Int32) (a_o102_wet : Nat → Int32) (a_o102_burns : Nat → Int32) (a_o107_fuel : Nat → Int32) (a_o107_wet : Nat → Int32) (a_o107_heat : Nat → Int32) (a_o107_burns : Nat → Int32) (a_aims : Nat → Int32) (a_bestAims : Nat → Int32) : Option (Int32 × Int32 × Int32 × (Option Nat) × (Option Nat) × (Nat → Int32) × (Nat → Int32) × (Nat → Int32) × (Nat → Int32) × (Nat → Int32) × (Nat → Int32) × (Nat → Int32) × (Nat → Int32) × (Nat → Int32) × (Nat → Int32)) :=
  (f12_be i_o102_lost i_o107_lost a_o102_fuel a_o102_wet a_o102_burns a_o107_fuel a_o107_wet a_o107_burns).bind fun rr1 =>
  (f12_minute p4 p3 i_y_columns i_y_rows i_y_wind rr1.1 rr1.2.1 rr1.2.2.1 a_o107_heat rr1.2.2.2).bind fun rr2 =>
  gd (inb (2 : Int32) 3) <|
  lt (upd a_aims (2 : Int32).toNatClampNeg p5) fun u4 =>
  (f1_tries_3 p2 p3 y i_leastLost i_y_columns i_y_rows i_y_wind i_o85_lost rr2.1 x0_o85_yard a_o85_fuel a_o85_wet a_o85_heat a_o85_burns rr2.2.1 rr2.2.2.1 rr2.2.2.2.2 u4 a_bestAims).bind fun rr5 =>
  some (rr5.1, rr5.2.1, rr2.1, rr5.2.2.1, (some y), rr5.2.2.2.1, rr5.2.2.2.2.1, rr5.2.2.2.2.2.1, rr5.2.2.2.2.2.2.1, rr2.2.1, rr2.2.2.1, rr2.2.2.2.1, rr2.2.2.2.2, u4, rr5.2.2.2.2.2.2.2)
set_option maxHeartbeats 4000000 in
theorem m1_next_2 (l : Launch) (G : gG) (K : gK) (I : gI) (J : gJ) (X : gX) (A : gI) (B : gJ) (Q : gX) (o : Nat) (y : Nat) (sh_o : Sh K X o 0 rows0) (sh_y : Sh K X y 3 rows3) (sh_o107 : Sh K X (o + 107) 9 rows9) (sh_o102 : Sh K X (o + 102) 9 rows9) (sh_o85 : Sh K X (o + 85) 9 rows9) (x_o102_yard : X 904 (o + 102) = some y) (x_o_tried : X 36 o = some (o + 85)) (q_st2 : Q (o + 91) (Int32.toNatClampNeg 2) = some (o + 102)) (q_st3 : Q (o + 91) (Int32.toNatClampNeg 3) = some (o + 107)) (p2 : Int32) (p3 : Int32) (p4 : Int32) (p5 : Int32) (i_leastLost : Int32) (i_y_columns : Int32) (i_y_rows : Int32) (i_y_wind : Int32) (i_o85_lost : Int32) (i_o102_lost : Int32) (i_o107_lost : Int32) (x0_o85_yard : Option Nat) (x0_o107_yard : Option Nat) (a_o85_fuel : Nat → Int32) (a_o85_wet : Nat → Int32) (a_o85_heat : Nat → Int32) (a_o85_burns : Nat → Int32) (a_o102_fuel : Nat → Int32) (a_o102_wet : Nat → Int32) (a_o102_burns : Nat → Int32) (a_o107_fuel : Nat → Int32) (a_o107_wet : Nat → Int32) (a_o107_heat : Nat → Int32) (a_o107_burns : Nat → Int32) (a_aims : Nat → Int32) (a_bestAims : Nat → Int32) (e_i_leastLost : I 44 o = i_leastLost) (e_i_y_columns : I 304 y = i_y_columns) (e_i_y_rows : I 305 y = i_y_rows) (e_i_y_wind : I 314 y = i_y_wind) (e_i_o85_lost : I 905 (o + 85) = i_o85_lost) (e_i_o102_lost : I 905 (o + 102) = i_o102_lost) (e_i_o107_lost : I 905 (o + 107) = i_o107_lost) (e_x0_o85_yard : X 904 (o + 85) = x0_o85_yard) (e_x0_o107_yard : X 904 (o + 107) = x0_o107_yard) (e_a_o85_fuel : A (o + 86) = a_o85_fuel) (e_a_o85_wet : A (o + 87) = a_o85_wet) (e_a_o85_heat : A (o + 88) = a_o85_heat) (e_a_o85_burns : A (o + 89) = a_o85_burns) (e_a_o102_fuel : A (o + 103) = a_o102_fuel) (e_a_o102_wet : A (o + 104) = a_o102_wet) (e_a_o102_burns : A (o + 106) = a_o102_burns) (e_a_o107_fuel : A (o + 108) = a_o107_fuel) (e_a_o107_wet : A (o + 109) = a_o107_wet) (e_a_o107_heat : A (o + 110) = a_o107_heat) (e_a_o107_burns : A (o + 111) = a_o107_burns) (e_a_aims : A (o + 112) = a_aims) (e_a_bestAims : A (o + 113) = a_bestAims) (out : Int32 × Int32 × Int32 × (Option Nat) × (Option Nat) × (Nat → Int32) × (Nat → Int32) × (Nat → Int32) × (Nat → Int32) × (Nat → Int32) × (Nat → Int32) × (Nat → Int32) × (Nat → Int32) × (Nat → Int32) × (Nat → Int32)) (hf : f1_next_2 p2 p3 p4 p5 y i_leastLost i_y_columns i_y_rows i_y_wind i_o85_lost i_o102_lost i_o107_lost x0_o85_yard x0_o107_yard a_o85_fuel a_o85_wet a_o85_heat a_o85_burns a_o102_fuel a_o102_wet a_o102_burns a_o107_fuel a_o107_wet a_o107_heat a_o107_burns a_aims a_bestAims = some out) : GMet l yX1_next cX1_next 6 none (6) (140) G [.ref o, .int (2 : Int32), .int p2, .int p3, .int p4, .int p5] K I J X A B Q none K (ov I [(44, o, out.1), (905, (o + 85), out.2.1), (905, (o + 107), out.2.2.1)]) J (ov X [(904, (o + 85), out.2.2.2.1), (904, (o + 107), out.2.2.2.2.1)]) (ova A [((o + 86), out.2.2.2.2.2.1), ((o + 87), out.2.2.2.2.2.2.1), ((o + 88), out.2.2.2.2.2.2.2.1), ((o + 89), out.2.2.2.2.2.2.2.2.1), ((o + 103), a_o102_fuel), ((o + 104), a_o102_wet), ((o + 106), a_o102_burns), ((o + 108), out.2.2.2.2.2.2.2.2.2.1), ((o + 109), out.2.2.2.2.2.2.2.2.2.2.1), ((o + 110), out.2.2.2.2.2.2.2.2.2.2.2.1), ((o + 111), out.2.2.2.2.2.2.2.2.2.2.2.2.1), ((o + 112), out.2.2.2.2.2.2.2.2.2.2.2.2.2.1), ((o + 113), out.2.2.2.2.2.2.2.2.2.2.2.2.2.2)]) B Q 0 0 := by
  refine GMet.of (y := yX1_next) rfl (Nat.le_of_ble_eq_true rfl) rfl ?_
  intro p e s m below meth c ls hx hb hr hml hlocks hts hown hname hG hR hl
  have hown : s.vm.findClass RX1 = some m.cls := hown
  have k_a_o85_fuel : K (o + 86) = some (.inr (0, 64)) := (sh_o85.2 0 _ rfl).1
  have k_a_o85_wet : K (o + 87) = some (.inr (0, 64)) := (sh_o85.2 1 _ rfl).1
  have k_a_o85_heat : K (o + 88) = some (.inr (0, 64)) := (sh_o85.2 2 _ rfl).1
  have k_a_o85_burns : K (o + 89) = some (.inr (1, 64)) := (sh_o85.2 3 _ rfl).1
  have k_a_o102_fuel : K (o + 103) = some (.inr (0, 64)) := (sh_o102.2 0 _ rfl).1
  have k_a_o102_wet : K (o + 104) = some (.inr (0, 64)) := (sh_o102.2 1 _ rfl).1
  have k_a_o102_burns : K (o + 106) = some (.inr (1, 64)) := (sh_o102.2 3 _ rfl).1
  have k_a_o107_fuel : K (o + 108) = some (.inr (0, 64)) := (sh_o107.2 0 _ rfl).1
  have k_a_o107_wet : K (o + 109) = some (.inr (0, 64)) := (sh_o107.2 1 _ rfl).1
  have k_a_o107_heat : K (o + 110) = some (.inr (0, 64)) := (sh_o107.2 2 _ rfl).1
  have k_a_o107_burns : K (o + 111) = some (.inr (1, 64)) := (sh_o107.2 3 _ rfl).1
  have k_a_aims : K (o + 112) = some (.inr (0, 3)) := (sh_o.2 17 _ rfl).1
  have k_a_bestAims : K (o + 113) = some (.inr (0, 3)) := (sh_o.2 18 _ rfl).1
  have hN_A : nda [(o + 86), (o + 87), (o + 88), (o + 89), (o + 103), (o + 104), (o + 106), (o + 108), (o + 109), (o + 110), (o + 111), (o + 112), (o + 113)] := nd_off o [86, 87, 88, 89, 103, 104, 106, 108, 109, 110, 111, 112, 113] rfl
  have hK_I : List.Nodup [((44, o) : Nat × Nat), ((905, (o + 85)) : Nat × Nat), ((905, (o + 107)) : Nat × Nat)] := by simp only [List.nodup_cons, List.mem_cons, List.not_mem_nil, or_false, not_or, not_false_eq_true, List.nodup_nil, and_true, Prod.mk.injEq]; omega
  have hK_X : List.Nodup [((904, (o + 85)) : Nat × Nat), ((904, (o + 107)) : Nat × Nat)] := by simp only [List.nodup_cons, List.mem_cons, List.not_mem_nil, or_false, not_or, not_false_eq_true, List.nodup_nil, and_true, Prod.mk.injEq]; omega
  have hR : RS G K (ov I [(44, o, i_leastLost), (905, (o + 85), i_o85_lost), (905, (o + 107), i_o107_lost)]) J (ov X [(904, (o + 85), x0_o85_yard), (904, (o + 107), x0_o107_yard)]) (ova A [((o + 86), a_o85_fuel), ((o + 87), a_o85_wet), ((o + 88), a_o85_heat), ((o + 89), a_o85_burns), ((o + 103), a_o102_fuel), ((o + 104), a_o102_wet), ((o + 106), a_o102_burns), ((o + 108), a_o107_fuel), ((o + 109), a_o107_wet), ((o + 110), a_o107_heat), ((o + 111), a_o107_burns), ((o + 112), a_aims), ((o + 113), a_bestAims)]) B Q s.heap := hR.to (Eq.symm (ov_sc e_i_leastLost (ov_sc e_i_o85_lost (ov_sc e_i_o107_lost rfl)))) rfl (Eq.symm (ov_sc e_x0_o85_yard (ov_sc e_x0_o107_yard rfl))) (Eq.symm (ova_sc e_a_o85_fuel (ova_sc e_a_o85_wet (ova_sc e_a_o85_heat (ova_sc e_a_o85_burns (ova_sc e_a_o102_fuel (ova_sc e_a_o102_wet (ova_sc e_a_o102_burns (ova_sc e_a_o107_fuel (ova_sc e_a_o107_wet (ova_sc e_a_o107_heat (ova_sc e_a_o107_burns (ova_sc e_a_aims (ova_sc e_a_bestAims rfl)))))))))))))) rfl rfl
  have hS : va_S (gA G) s.heap s.heap [] := va_S.rf
  have hend : ∀ (pc : Nat) (H : Heap) (locs : List Loc) (ls : Array Slot), decode cX1_next pc = .ok (.return_, 1) → RS G K (ov I [(44, o, out.1), (905, (o + 85), out.2.1), (905, (o + 107), out.2.2.1)]) J (ov X [(904, (o + 85), out.2.2.2.1), (904, (o + 107), out.2.2.2.2.1)]) (ova A [((o + 86), out.2.2.2.2.2.1), ((o + 87), out.2.2.2.2.2.2.1), ((o + 88), out.2.2.2.2.2.2.2.1), ((o + 89), out.2.2.2.2.2.2.2.2.1), ((o + 103), a_o102_fuel), ((o + 104), a_o102_wet), ((o + 106), a_o102_burns), ((o + 108), out.2.2.2.2.2.2.2.2.2.1), ((o + 109), out.2.2.2.2.2.2.2.2.2.2.1), ((o + 110), out.2.2.2.2.2.2.2.2.2.2.2.1), ((o + 111), out.2.2.2.2.2.2.2.2.2.2.2.2.1), ((o + 112), out.2.2.2.2.2.2.2.2.2.2.2.2.2.1), ((o + 113), out.2.2.2.2.2.2.2.2.2.2.2.2.2.2)]) B Q H → va_S (gA G) s.heap H locs → W p l e ({ frames := 6, cells := 0, slots := 0, locals := 140 } : Room) s m ([.ref o, .int (2 : Int32), .int p2, .int p3, .int p4, .int p5] : List Value).toArray below meth c H locs 0 0 (MQ below (gQ G none K (ov I [(44, o, out.1), (905, (o + 85), out.2.1), (905, (o + 107), out.2.2.1)]) J (ov X [(904, (o + 85), out.2.2.2.1), (904, (o + 107), out.2.2.2.2.1)]) (ova A [((o + 86), out.2.2.2.2.2.1), ((o + 87), out.2.2.2.2.2.2.1), ((o + 88), out.2.2.2.2.2.2.2.1), ((o + 89), out.2.2.2.2.2.2.2.2.1), ((o + 103), a_o102_fuel), ((o + 104), a_o102_wet), ((o + 106), a_o102_burns), ((o + 108), out.2.2.2.2.2.2.2.2.2.1), ((o + 109), out.2.2.2.2.2.2.2.2.2.2.1), ((o + 110), out.2.2.2.2.2.2.2.2.2.2.2.1), ((o + 111), out.2.2.2.2.2.2.2.2.2.2.2.2.1), ((o + 112), out.2.2.2.2.2.2.2.2.2.2.2.2.2.1), ((o + 113), out.2.2.2.2.2.2.2.2.2.2.2.2.2.2)]) B Q) ([.ref o, .int (2 : Int32), .int p2, .int p3, .int p4, .int p5] : List Value).toArray s 0 0 (gA G)) (F0 m pc ls []) := fun pc H locs ls hd hR hS => g_vret hx hb hr hlocks hG hR hS rfl hd
  generalize MQ below (gQ G none K (ov I [(44, o, out.1), (905, (o + 85), out.2.1), (905, (o + 107), out.2.2.1)]) J (ov X [(904, (o + 85), out.2.2.2.1), (904, (o + 107), out.2.2.2.2.1)]) (ova A [((o + 86), out.2.2.2.2.2.1), ((o + 87), out.2.2.2.2.2.2.1), ((o + 88), out.2.2.2.2.2.2.2.1), ((o + 89), out.2.2.2.2.2.2.2.2.1), ((o + 103), a_o102_fuel), ((o + 104), a_o102_wet), ((o + 106), a_o102_burns), ((o + 108), out.2.2.2.2.2.2.2.2.2.1), ((o + 109), out.2.2.2.2.2.2.2.2.2.2.1), ((o + 110), out.2.2.2.2.2.2.2.2.2.2.2.1), ((o + 111), out.2.2.2.2.2.2.2.2.2.2.2.2.1), ((o + 112), out.2.2.2.2.2.2.2.2.2.2.2.2.2.1), ((o + 113), out.2.2.2.2.2.2.2.2.2.2.2.2.2.2)]) B Q) ([.ref o, .int (2 : Int32), .int p2, .int p3, .int p4, .int p5] : List Value).toArray s 0 0 (gA G) = Z at hend ⊢
  generalize ([.ref o, .int (2 : Int32), .int p2, .int p3, .int p4, .int p5] : List Value).toArray = args at hts hend ⊢
  unfold f1_next_2 at hf
  refine lv_aload_n hx hb dX1_next_0 rfl (lv_at hl 0 rfl) ?_
  refine g_getr (b := (o + 91)) hx hb hts hown hG hR gFx_X1_180_0 sh_o.1 ((congrFun (ov_no rfl) _).trans ((sh_o.2 16 _ rfl).2)) dX1_next_1 ?_
  refine lv_iload_n hx hb dX1_next_4 rfl (lv_at hl 1 rfl) ?_
  refine lv_iconst (v := 1) hx hb dX1_next_5 li_1 ?_
  refine n_iadd (v := 3) hx hb (by decide) dX1_next_6 ?_
  refine g_aaldr (b := (o + 107)) hx hb hG hR (t := 2) ((sh_o.2 16 _ rfl).1) (by decide) (show inb 3 4 by decide) q_st3 dX1_next_7 ?_
  refine lv_aload_n hx hb dX1_next_8 rfl (lv_at hl 0 rfl) ?_
  refine g_getr (b := (o + 91)) hx hb hts hown hG hR gFx_X1_180_0 sh_o.1 ((congrFun (ov_no rfl) _).trans ((sh_o.2 16 _ rfl).2)) dX1_next_9 ?_
  refine lv_iload_n hx hb dX1_next_12 rfl (lv_at hl 1 rfl) ?_
  refine g_aaldr (b := (o + 102)) hx hb hG hR (t := 2) ((sh_o.2 16 _ rfl).1) (by decide) (show inb 2 4 by decide) q_st2 dX1_next_13 ?_
  obtain ⟨rr1, hrr1, hf⟩ := bind_s hf
  refine g0_cVv (rm := (1, 26)) (As := [.ref (o + 102)]) (rest := []) ⟨hx, hb, hml, hown, hts⟩ hG hR hS (m12_be l G K (ov I [(44, o, i_leastLost), (905, (o + 85), i_o85_lost), (905, (o + 107), i_o107_lost)]) J (ov X [(904, (o + 85), x0_o85_yard), (904, (o + 107), x0_o107_yard)]) (ova A [((o + 86), a_o85_fuel), ((o + 87), a_o85_wet), ((o + 88), a_o85_heat), ((o + 89), a_o85_burns), ((o + 103), a_o102_fuel), ((o + 104), a_o102_wet), ((o + 106), a_o102_burns), ((o + 108), a_o107_fuel), ((o + 109), a_o107_wet), ((o + 110), a_o107_heat), ((o + 111), a_o107_burns), ((o + 112), a_aims), ((o + 113), a_bestAims)]) B Q (o + 107) (o + 102) y (Sh.ov rfl sh_o107) (Sh.ov rfl sh_o102) (Sh.ov rfl sh_y) ((ov_ne (List.forall_mem_cons.mpr ⟨Or.inr (by show (o + 85) ≠ (o + 102); omega), List.forall_mem_cons.mpr ⟨Or.inr (by show (o + 107) ≠ (o + 102); omega), fun _ h => absurd h List.not_mem_nil⟩⟩)).trans x_o102_yard) (by omega) i_o102_lost i_o107_lost x0_o107_yard a_o102_fuel a_o102_wet a_o102_burns a_o107_fuel a_o107_wet a_o107_burns ((ov_ne (List.forall_mem_cons.mpr ⟨Or.inl (by show (44 : Nat) ≠ 905; decide), List.forall_mem_cons.mpr ⟨Or.inr (by show (o + 85) ≠ (o + 102); omega), List.forall_mem_cons.mpr ⟨Or.inr (by show (o + 107) ≠ (o + 102); omega), fun _ h => absurd h List.not_mem_nil⟩⟩⟩)).trans e_i_o102_lost) (ovp_get 2 hK_I rfl) (ovp_get 1 hK_X rfl) (ova_get 4 hN_A rfl) (ova_get 5 hN_A rfl) (ova_get 6 hN_A rfl) (ova_get 7 hN_A rfl) (ova_get 8 hN_A rfl) (ova_get 10 hN_A rfl) rr1 hrr1) (cwV 1 hts gi_X1_450 rfl rfl rfl hd_X12_be ⟨Nat.le_of_ble_eq_true rfl, Nat.le_of_ble_eq_true rfl⟩) sh_o107.1 rfl rfl hl.1 (Nat.le_of_ble_eq_true rfl) dX1_next_14 ⟨Nat.le_refl _, Nat.le_refl _⟩ rfl (fun H locs hR hS => ?_)
  have hR : RS G K (ov I [(44, o, i_leastLost), (905, (o + 85), i_o85_lost), (905, (o + 107), rr1.1)]) J (ov X [(904, (o + 85), x0_o85_yard), (904, (o + 107), (some y))]) (ova A [((o + 86), a_o85_fuel), ((o + 87), a_o85_wet), ((o + 88), a_o85_heat), ((o + 89), a_o85_burns), ((o + 103), a_o102_fuel), ((o + 104), a_o102_wet), ((o + 106), a_o102_burns), ((o + 108), rr1.2.1), ((o + 109), rr1.2.2.1), ((o + 110), a_o107_heat), ((o + 111), rr1.2.2.2), ((o + 112), a_aims), ((o + 113), a_bestAims)]) B Q H := hR.to (ovp_merge (l := [(44, o, i_leastLost), (905, (o + 85), i_o85_lost), (905, (o + 107), i_o107_lost)]) hK_I [2] [(905, (o + 107), rr1.1)] rfl rfl) rfl (ovp_merge (l := [(904, (o + 85), x0_o85_yard), (904, (o + 107), x0_o107_yard)]) hK_X [1] [(904, (o + 107), (some y))] rfl rfl) (ova_merge (l := [((o + 86), a_o85_fuel), ((o + 87), a_o85_wet), ((o + 88), a_o85_heat), ((o + 89), a_o85_burns), ((o + 103), a_o102_fuel), ((o + 104), a_o102_wet), ((o + 106), a_o102_burns), ((o + 108), a_o107_fuel), ((o + 109), a_o107_wet), ((o + 110), a_o107_heat), ((o + 111), a_o107_burns), ((o + 112), a_aims), ((o + 113), a_bestAims)]) hN_A [4, 5, 6, 7, 8, 10] [((o + 103), a_o102_fuel), ((o + 104), a_o102_wet), ((o + 106), a_o102_burns), ((o + 108), rr1.2.1), ((o + 109), rr1.2.2.1), ((o + 111), rr1.2.2.2)] rfl rfl) rfl rfl
  refine lv_aload_n hx hb dX1_next_17 rfl (lv_at hl 0 rfl) ?_
  refine g_getr (b := (o + 91)) hx hb hts hown hG hR gFx_X1_180_0 sh_o.1 ((congrFun (ov_no rfl) _).trans ((sh_o.2 16 _ rfl).2)) dX1_next_18 ?_
  refine lv_iload_n hx hb dX1_next_21 rfl (lv_at hl 1 rfl) ?_
  refine lv_iconst (v := 1) hx hb dX1_next_22 li_1 ?_
  refine n_iadd (v := 3) hx hb (by decide) dX1_next_23 ?_
  refine g_aaldr (b := (o + 107)) hx hb hG hR (t := 2) ((sh_o.2 16 _ rfl).1) (by decide) (show inb 3 4 by decide) q_st3 dX1_next_24 ?_
  refine lv_iload hx hb dX1_next_25 (lv_at hl 4 rfl) ?_
  refine lv_iload_n hx hb dX1_next_27 rfl (lv_at hl 3 rfl) ?_
  obtain ⟨rr2, hrr2, hf⟩ := bind_s hf
  refine g0_cVv (rm := (4, 91)) (As := [.int p4, .int p3]) (rest := []) ⟨hx, hb, hml, hown, hts⟩ hG hR hS (m12_minute l G K (ov I [(44, o, i_leastLost), (905, (o + 85), i_o85_lost), (905, (o + 107), rr1.1)]) J (ov X [(904, (o + 85), x0_o85_yard), (904, (o + 107), (some y))]) (ova A [((o + 86), a_o85_fuel), ((o + 87), a_o85_wet), ((o + 88), a_o85_heat), ((o + 89), a_o85_burns), ((o + 103), a_o102_fuel), ((o + 104), a_o102_wet), ((o + 106), a_o102_burns), ((o + 108), rr1.2.1), ((o + 109), rr1.2.2.1), ((o + 110), a_o107_heat), ((o + 111), rr1.2.2.2), ((o + 112), a_aims), ((o + 113), a_bestAims)]) B Q (o + 107) y (Sh.ov rfl sh_o107) (Sh.ov rfl sh_y) (ovp_get 1 hK_X rfl) p4 p3 i_y_columns i_y_rows i_y_wind rr1.1 rr1.2.1 rr1.2.2.1 a_o107_heat rr1.2.2.2 ((congrFun (ov_no rfl) _).trans e_i_y_columns) ((congrFun (ov_no rfl) _).trans e_i_y_rows) ((congrFun (ov_no rfl) _).trans e_i_y_wind) (ovp_get 2 hK_I rfl) (ova_get 7 hN_A rfl) (ova_get 8 hN_A rfl) (ova_get 9 hN_A rfl) (ova_get 10 hN_A rfl) rr2 hrr2) (cwV 2 hts gi_X1_457 rfl rfl rfl hd_X12_minute ⟨Nat.le_of_ble_eq_true rfl, Nat.le_of_ble_eq_true rfl⟩) sh_o107.1 rfl rfl hl.1 (Nat.le_of_ble_eq_true rfl) dX1_next_28 ⟨Nat.le_refl _, Nat.le_refl _⟩ rfl (fun H locs hR hS => ?_)
  have hR : RS G K (ov I [(44, o, i_leastLost), (905, (o + 85), i_o85_lost), (905, (o + 107), rr2.1)]) J (ov X [(904, (o + 85), x0_o85_yard), (904, (o + 107), (some y))]) (ova A [((o + 86), a_o85_fuel), ((o + 87), a_o85_wet), ((o + 88), a_o85_heat), ((o + 89), a_o85_burns), ((o + 103), a_o102_fuel), ((o + 104), a_o102_wet), ((o + 106), a_o102_burns), ((o + 108), rr2.2.1), ((o + 109), rr2.2.2.1), ((o + 110), rr2.2.2.2.1), ((o + 111), rr2.2.2.2.2), ((o + 112), a_aims), ((o + 113), a_bestAims)]) B Q H := hR.to (ovp_merge (l := [(44, o, i_leastLost), (905, (o + 85), i_o85_lost), (905, (o + 107), rr1.1)]) hK_I [2] [(905, (o + 107), rr2.1)] rfl rfl) rfl rfl (ova_merge (l := [((o + 86), a_o85_fuel), ((o + 87), a_o85_wet), ((o + 88), a_o85_heat), ((o + 89), a_o85_burns), ((o + 103), a_o102_fuel), ((o + 104), a_o102_wet), ((o + 106), a_o102_burns), ((o + 108), rr1.2.1), ((o + 109), rr1.2.2.1), ((o + 110), a_o107_heat), ((o + 111), rr1.2.2.2), ((o + 112), a_aims), ((o + 113), a_bestAims)]) hN_A [7, 8, 9, 10] [((o + 108), rr2.2.1), ((o + 109), rr2.2.2.1), ((o + 110), rr2.2.2.2.1), ((o + 111), rr2.2.2.2.2)] rfl rfl) rfl rfl
  refine lv_aload_n hx hb dX1_next_31 rfl (lv_at hl 0 rfl) ?_
  refine g_getr (b := (o + 112)) hx hb hts hown hG hR gFx_X1_183_0 sh_o.1 ((congrFun (ov_no rfl) _).trans ((sh_o.2 17 _ rfl).2)) dX1_next_32 ?_
  refine lv_iload_n hx hb dX1_next_35 rfl (lv_at hl 1 rfl) ?_
  refine lv_iload hx hb dX1_next_36 (lv_at hl 5 rfl) ?_
  obtain ⟨c3, hf⟩ := gd_some hf
  obtain ⟨u4, eu4, hf⟩ := lt_some hf
  refine n_iast (la' := [((o + 86), a_o85_fuel), ((o + 87), a_o85_wet), ((o + 88), a_o85_heat), ((o + 89), a_o85_burns), ((o + 103), a_o102_fuel), ((o + 104), a_o102_wet), ((o + 106), a_o102_burns), ((o + 108), rr2.2.1), ((o + 109), rr2.2.2.1), ((o + 110), rr2.2.2.2.1), ((o + 111), rr2.2.2.2.2), ((o + 112), u4), ((o + 113), a_bestAims)]) hx hb hG hR hS k_a_aims c3 hN_A 11 rfl eu4 rfl dX1_next_38 (fun H locs hR hS => ?_)
  refine lv_aload_n hx hb dX1_next_39 rfl (lv_at hl 0 rfl) ?_
  refine lv_iload_n hx hb dX1_next_40 rfl (lv_at hl 1 rfl) ?_
  refine lv_iconst (v := 1) hx hb dX1_next_41 li_1 ?_
  refine n_iadd (v := 3) hx hb (by decide) dX1_next_42 ?_
  refine lv_iload_n hx hb dX1_next_43 rfl (lv_at hl 2 rfl) ?_
  refine lv_iload_n hx hb dX1_next_44 rfl (lv_at hl 3 rfl) ?_
  obtain ⟨rr5, hrr5, hf⟩ := bind_s hf
  refine g0_cVv (rm := (5, 115)) (As := [.int (3 : Int32), .int p2, .int p3]) (rest := []) ⟨hx, hb, hml, hown, hts⟩ hG hR hS (m1_tries_3 l G K (ov I [(44, o, i_leastLost), (905, (o + 85), i_o85_lost), (905, (o + 107), rr2.1)]) J (ov X [(904, (o + 85), x0_o85_yard), (904, (o + 107), (some y))]) (ova A [((o + 86), a_o85_fuel), ((o + 87), a_o85_wet), ((o + 88), a_o85_heat), ((o + 89), a_o85_burns), ((o + 103), a_o102_fuel), ((o + 104), a_o102_wet), ((o + 106), a_o102_burns), ((o + 108), rr2.2.1), ((o + 109), rr2.2.2.1), ((o + 110), rr2.2.2.2.1), ((o + 111), rr2.2.2.2.2), ((o + 112), u4), ((o + 113), a_bestAims)]) B Q o y (Sh.ov rfl sh_o) (Sh.ov rfl sh_y) (Sh.ov rfl sh_o85) (Sh.ov rfl sh_o107) (ovp_get 1 hK_X rfl) ((congrFun (ov_no rfl) _).trans x_o_tried) q_st3 p2 p3 i_leastLost i_y_columns i_y_rows i_y_wind i_o85_lost rr2.1 x0_o85_yard a_o85_fuel a_o85_wet a_o85_heat a_o85_burns rr2.2.1 rr2.2.2.1 rr2.2.2.2.2 u4 a_bestAims (ovp_get 0 hK_I rfl) ((congrFun (ov_no rfl) _).trans e_i_y_columns) ((congrFun (ov_no rfl) _).trans e_i_y_rows) ((congrFun (ov_no rfl) _).trans e_i_y_wind) (ovp_get 1 hK_I rfl) (ovp_get 2 hK_I rfl) (ovp_get 0 hK_X rfl) (ova_get 0 hN_A rfl) (ova_get 1 hN_A rfl) (ova_get 2 hN_A rfl) (ova_get 3 hN_A rfl) (ova_get 7 hN_A rfl) (ova_get 8 hN_A rfl) (ova_get 10 hN_A rfl) (ova_get 11 hN_A rfl) (ova_get 12 hN_A rfl) rr5 hrr5) (cwV 3 hts gi_X1_472 rfl rfl rfl hd_X1_tries ⟨Nat.le_of_ble_eq_true rfl, Nat.le_of_ble_eq_true rfl⟩) sh_o.1 rfl rfl hl.1 (Nat.le_of_ble_eq_true rfl) dX1_next_45 ⟨Nat.le_refl _, Nat.le_refl _⟩ rfl (fun H locs hR hS => ?_)
  have hR : RS G K (ov I [(44, o, rr5.1), (905, (o + 85), rr5.2.1), (905, (o + 107), rr2.1)]) J (ov X [(904, (o + 85), rr5.2.2.1), (904, (o + 107), (some y))]) (ova A [((o + 86), rr5.2.2.2.1), ((o + 87), rr5.2.2.2.2.1), ((o + 88), rr5.2.2.2.2.2.1), ((o + 89), rr5.2.2.2.2.2.2.1), ((o + 103), a_o102_fuel), ((o + 104), a_o102_wet), ((o + 106), a_o102_burns), ((o + 108), rr2.2.1), ((o + 109), rr2.2.2.1), ((o + 110), rr2.2.2.2.1), ((o + 111), rr2.2.2.2.2), ((o + 112), u4), ((o + 113), rr5.2.2.2.2.2.2.2)]) B Q H := hR.to (ovp_merge (l := [(44, o, i_leastLost), (905, (o + 85), i_o85_lost), (905, (o + 107), rr2.1)]) hK_I [0, 1] [(44, o, rr5.1), (905, (o + 85), rr5.2.1)] rfl rfl) rfl (ovp_merge (l := [(904, (o + 85), x0_o85_yard), (904, (o + 107), (some y))]) hK_X [0] [(904, (o + 85), rr5.2.2.1)] rfl rfl) (ova_mix (l := [((o + 86), a_o85_fuel), ((o + 87), a_o85_wet), ((o + 88), a_o85_heat), ((o + 89), a_o85_burns), ((o + 103), a_o102_fuel), ((o + 104), a_o102_wet), ((o + 106), a_o102_burns), ((o + 108), rr2.2.1), ((o + 109), rr2.2.2.1), ((o + 110), rr2.2.2.2.1), ((o + 111), rr2.2.2.2.2), ((o + 112), u4), ((o + 113), a_bestAims)]) (l1 := [((o + 86), rr5.2.2.2.1), ((o + 87), rr5.2.2.2.2.1), ((o + 88), rr5.2.2.2.2.2.1), ((o + 89), rr5.2.2.2.2.2.2.1), ((o + 103), a_o102_fuel), ((o + 104), a_o102_wet), ((o + 106), a_o102_burns), ((o + 108), rr2.2.1), ((o + 109), rr2.2.2.1), ((o + 110), rr2.2.2.2.1), ((o + 111), rr2.2.2.2.2), ((o + 112), u4), ((o + 113), rr5.2.2.2.2.2.2.2)]) (es := [((o + 86), rr5.2.2.2.1), ((o + 87), rr5.2.2.2.2.1), ((o + 88), rr5.2.2.2.2.2.1), ((o + 89), rr5.2.2.2.2.2.2.1), ((o + 108), rr2.2.1), ((o + 109), rr2.2.2.1), ((o + 111), rr2.2.2.2.2), ((o + 112), u4), ((o + 113), rr5.2.2.2.2.2.2.2)]) hN_A rfl [0, 1, 2, 3, 7, 8, 10, 11, 12] [4, 5, 6, 9] 13 rfl (by decide) rfl rfl) rfl rfl
  obtain rfl := some_i hf
  exact hend _ _ _ _ dX1_next_48 hR hS
noncomputable def f1_tries_2_e2_0 (p2 : Int32) (p3 : Int32) (i_y_columns : Int32) (i_y_rows : Int32) (i_y_wind : Int32) (i_o102_lost : Int32) (a_o102_fuel : Nat → Int32) (a_o102_wet : Nat → Int32) (a_o102_burns : Nat → Int32) (y : Nat) (x2_0 : Int32 × Int32 × Int32 × (Option Nat) × (Option Nat) × (Nat → Int32) × (Nat → Int32) × (Nat → Int32) × (Nat → Int32) × (Nat → Int32) × (Nat → Int32) × (Nat → Int32) × (Nat → Int32) × (Nat → Int32) × (Nat → Int32)) : Option (Int32 × Int32 × Int32 × (Option Nat) × (Option Nat) × (Nat → Int32) × (Nat → Int32) × (Nat → Int32) × (Nat → Int32) × (Nat → Int32) × (Nat → Int32) × (Nat → Int32) × (Nat → Int32) × (Nat → Int32) × (Nat → Int32)) :=
  (f1_next_2 p2 p3 (-1 : Int32) (0 : Int32) y x2_0.1 i_y_columns i_y_rows i_y_wind x2_0.2.1 i_o102_lost x2_0.2.2.1 x2_0.2.2.2.1 x2_0.2.2.2.2.1 x2_0.2.2.2.2.2.1 x2_0.2.2.2.2.2.2.1 x2_0.2.2.2.2.2.2.2.1 x2_0.2.2.2.2.2.2.2.2.1 a_o102_fuel a_o102_wet a_o102_burns x2_0.2.2.2.2.2.2.2.2.2.1 x2_0.2.2.2.2.2.2.2.2.2.2.1 x2_0.2.2.2.2.2.2.2.2.2.2.2.1 x2_0.2.2.2.2.2.2.2.2.2.2.2.2.1 x2_0.2.2.2.2.2.2.2.2.2.2.2.2.2.1 x2_0.2.2.2.2.2.2.2.2.2.2.2.2.2.2).bind fun rr3 =>
  some (rr3.1, rr3.2.1, rr3.2.2.1, rr3.2.2.2.1, rr3.2.2.2.2.1, rr3.2.2.2.2.2.1, rr3.2.2.2.2.2.2.1, rr3.2.2.2.2.2.2.2.1, rr3.2.2.2.2.2.2.2.2.1, rr3.2.2.2.2.2.2.2.2.2.1, rr3.2.2.2.2.2.2.2.2.2.2.1, rr3.2.2.2.2.2.2.2.2.2.2.2.1, rr3.2.2.2.2.2.2.2.2.2.2.2.2.1, rr3.2.2.2.2.2.2.2.2.2.2.2.2.2.1, rr3.2.2.2.2.2.2.2.2.2.2.2.2.2.2)

noncomputable def f1_tries_2_j151 (w2_5 : Int32) (j151_4 : Int32) (j151_i_leastLost : Int32) (j151_i_o85_lost : Int32) (j151_i_o107_lost : Int32) (j151_x0_o85_yard : Option Nat) (j151_x0_o107_yard : Option Nat) (j151_a_o85_fuel : Nat → Int32) (j151_a_o85_wet : Nat → Int32) (j151_a_o85_heat : Nat → Int32) (j151_a_o85_burns : Nat → Int32) (j151_a_o107_fuel : Nat → Int32) (j151_a_o107_wet : Nat → Int32) (j151_a_o107_heat : Nat → Int32) (j151_a_o107_burns : Nat → Int32) (j151_a_aims : Nat → Int32) (j151_a_bestAims : Nat → Int32) : Option ((Int32 × Int32 × Int32 × Int32 × Int32 × (Option Nat) × (Option Nat) × (Nat → Int32) × (Nat → Int32) × (Nat → Int32) × (Nat → Int32) × (Nat → Int32) × (Nat → Int32) × (Nat → Int32) × (Nat → Int32) × (Nat → Int32) × (Nat → Int32)) ⊕ (Int32 × Int32 × Int32 × (Option Nat) × (Option Nat) × (Nat → Int32) × (Nat → Int32) × (Nat → Int32) × (Nat → Int32) × (Nat → Int32) × (Nat → Int32) × (Nat → Int32) × (Nat → Int32) × (Nat → Int32) × (Nat → Int32))) :=
  lt (w2_5 + (1 : Int32)) fun v8 =>
  some (.inl (j151_4, v8, j151_i_leastLost, j151_i_o85_lost, j151_i_o107_lost, j151_x0_o85_yard, j151_x0_o107_yard, j151_a_o85_fuel, j151_a_o85_wet, j151_a_o85_heat, j151_a_o85_burns, j151_a_o107_fuel, j151_a_o107_wet, j151_a_o107_heat, j151_a_o107_burns, j151_a_aims, j151_a_bestAims))

noncomputable def f1_tries_2_s2 (p2 : Int32) (p3 : Int32) (i_y_columns : Int32) (i_y_rows : Int32) (i_y_wind : Int32) (i_o102_lost : Int32) (a_o102_fuel : Nat → Int32) (a_o102_wet : Nat → Int32) (a_o102_burns : Nat → Int32) (y : Nat) (w2_4 : Int32) (w2_5 : Int32) (w2_i_leastLost : Int32) (w2_i_o85_lost : Int32) (w2_i_o107_lost : Int32) (w2_x0_o85_yard : Option Nat) (w2_x0_o107_yard : Option Nat) (w2_a_o85_fuel : Nat → Int32) (w2_a_o85_wet : Nat → Int32) (w2_a_o85_heat : Nat → Int32) (w2_a_o85_burns : Nat → Int32) (w2_a_o107_fuel : Nat → Int32) (w2_a_o107_wet : Nat → Int32) (w2_a_o107_heat : Nat → Int32) (w2_a_o107_burns : Nat → Int32) (w2_a_aims : Nat → Int32) (w2_a_bestAims : Nat → Int32) : Option ((Int32 × Int32 × Int32 × Int32 × Int32 × (Option Nat) × (Option Nat) × (Nat → Int32) × (Nat → Int32) × (Nat → Int32) × (Nat → Int32) × (Nat → Int32) × (Nat → Int32) × (Nat → Int32) × (Nat → Int32) × (Nat → Int32) × (Nat → Int32)) ⊕ (Int32 × Int32 × Int32 × (Option Nat) × (Option Nat) × (Nat → Int32) × (Nat → Int32) × (Nat → Int32) × (Nat → Int32) × (Nat → Int32) × (Nat → Int32) × (Nat → Int32) × (Nat → Int32) × (Nat → Int32) × (Nat → Int32))) :=
  if (64 : Int32) ≤ w2_5 then
    some (.inr (w2_i_leastLost, w2_i_o85_lost, w2_i_o107_lost, w2_x0_o85_yard, w2_x0_o107_yard, w2_a_o85_fuel, w2_a_o85_wet, w2_a_o85_heat, w2_a_o85_burns, w2_a_o107_fuel, w2_a_o107_wet, w2_a_o107_heat, w2_a_o107_burns, w2_a_aims, w2_a_bestAims))
  else
    if (8 : Int32) ≤ w2_4 then
      some (.inr (w2_i_leastLost, w2_i_o85_lost, w2_i_o107_lost, w2_x0_o85_yard, w2_x0_o107_yard, w2_a_o85_fuel, w2_a_o85_wet, w2_a_o85_heat, w2_a_o85_burns, w2_a_o107_fuel, w2_a_o107_wet, w2_a_o107_heat, w2_a_o107_burns, w2_a_aims, w2_a_bestAims))
    else
      gd (inb w2_5 64) <|
      lt (a_o102_burns w2_5.toNatClampNeg) fun v7 =>
      if v7 = 0 then
        f1_tries_2_j151 w2_5 w2_4 w2_i_leastLost w2_i_o85_lost w2_i_o107_lost w2_x0_o85_yard w2_x0_o107_yard w2_a_o85_fuel w2_a_o85_wet w2_a_o85_heat w2_a_o85_burns w2_a_o107_fuel w2_a_o107_wet w2_a_o107_heat w2_a_o107_burns w2_a_aims w2_a_bestAims
      else
        lt (w2_4 + (1 : Int32)) fun v10 =>
        gd (¬ (8 : Int32) = 0) <|
        lt (w2_5 / (8 : Int32)) fun v11 =>
        lt ((10 : Int32) * v11) fun v13 =>
        lt ((100 : Int32) + v13) fun v14 =>
        gd (¬ (8 : Int32) = 0) <|
        lt (w2_5 - w2_5 / (8 : Int32) * (8 : Int32)) fun v15 =>
        lt (v14 + v15) fun v17 =>
        (f1_next_2 p2 p3 w2_5 v17 y w2_i_leastLost i_y_columns i_y_rows i_y_wind w2_i_o85_lost i_o102_lost w2_i_o107_lost w2_x0_o85_yard w2_x0_o107_yard w2_a_o85_fuel w2_a_o85_wet w2_a_o85_heat w2_a_o85_burns a_o102_fuel a_o102_wet a_o102_burns w2_a_o107_fuel w2_a_o107_wet w2_a_o107_heat w2_a_o107_burns w2_a_aims w2_a_bestAims).bind fun rr18 =>
        f1_tries_2_j151 w2_5 v10 rr18.1 rr18.2.1 rr18.2.2.1 rr18.2.2.2.1 rr18.2.2.2.2.1 rr18.2.2.2.2.2.1 rr18.2.2.2.2.2.2.1 rr18.2.2.2.2.2.2.2.1 rr18.2.2.2.2.2.2.2.2.1 rr18.2.2.2.2.2.2.2.2.2.1 rr18.2.2.2.2.2.2.2.2.2.2.1 rr18.2.2.2.2.2.2.2.2.2.2.2.1 rr18.2.2.2.2.2.2.2.2.2.2.2.2.1 rr18.2.2.2.2.2.2.2.2.2.2.2.2.2.1 rr18.2.2.2.2.2.2.2.2.2.2.2.2.2.2

noncomputable def f1_tries_2_e20_0 (i_leastLost : Int32) (i_o107_lost : Int32) (x0_o107_yard : Option Nat) (a_o107_fuel : Nat → Int32) (a_o107_wet : Nat → Int32) (a_o107_heat : Nat → Int32) (a_o107_burns : Nat → Int32) (a_aims : Nat → Int32) (a_bestAims : Nat → Int32) (y : Nat) (x20_0 : Int32 × (Nat → Int32) × (Nat → Int32) × (Nat → Int32) × (Nat → Int32)) : Option (Int32 × Int32 × Int32 × (Option Nat) × (Option Nat) × (Nat → Int32) × (Nat → Int32) × (Nat → Int32) × (Nat → Int32) × (Nat → Int32) × (Nat → Int32) × (Nat → Int32) × (Nat → Int32) × (Nat → Int32) × (Nat → Int32)) :=
  if x20_0.1 < i_leastLost then
    gd (cp_ok (0 : Int32) (0 : Int32) (2 : Int32) 3 3) <|
    lt (va_cpy a_aims a_bestAims (0 : Int32).toNatClampNeg (0 : Int32).toNatClampNeg (2 : Int32).toNatClampNeg) fun u23 =>
    some (x20_0.1, x20_0.1, i_o107_lost, (some y), x0_o107_yard, x20_0.2.1, x20_0.2.2.1, x20_0.2.2.2.1, x20_0.2.2.2.2, a_o107_fuel, a_o107_wet, a_o107_heat, a_o107_burns, a_aims, u23)
  else
    some (i_leastLost, x20_0.1, i_o107_lost, (some y), x0_o107_yard, x20_0.2.1, x20_0.2.2.1, x20_0.2.2.2.1, x20_0.2.2.2.2, a_o107_fuel, a_o107_wet, a_o107_heat, a_o107_burns, a_aims, a_bestAims)

noncomputable def f1_tries_2_s20 (i_y_columns : Int32) (i_y_rows : Int32) (i_y_wind : Int32) (w20_4 : Int32) (w20_i_o85_lost : Int32) (w20_a_o85_fuel : Nat → Int32) (w20_a_o85_wet : Nat → Int32) (w20_a_o85_heat : Nat → Int32) (w20_a_o85_burns : Nat → Int32) : Option ((Int32 × Int32 × (Nat → Int32) × (Nat → Int32) × (Nat → Int32) × (Nat → Int32)) ⊕ (Int32 × (Nat → Int32) × (Nat → Int32) × (Nat → Int32) × (Nat → Int32))) :=
  if (20 : Int32) ≤ w20_4 then
    some (.inr (w20_i_o85_lost, w20_a_o85_fuel, w20_a_o85_wet, w20_a_o85_heat, w20_a_o85_burns))
  else
    (f12_minute (-1 : Int32) (0 : Int32) i_y_columns i_y_rows i_y_wind w20_i_o85_lost w20_a_o85_fuel w20_a_o85_wet w20_a_o85_heat w20_a_o85_burns).bind fun rr25 =>
    lt (w20_4 + (1 : Int32)) fun v26 =>
    some (.inl (v26, rr25.1, rr25.2.1, rr25.2.2.1, rr25.2.2.2.1, rr25.2.2.2.2))

noncomputable def f1_tries_2 (p2 : Int32) (p3 : Int32) (y : Nat) (i_leastLost : Int32) (i_y_columns : Int32) (i_y_rows : Int32) (i_y_wind : Int32) (i_o85_lost : Int32) (i_o102_lost : Int32) (i_o107_lost : Int32) (x0_o85_yard : Option Nat) (x0_o107_yard : Option Nat) (a_o85_fuel : Nat → Int32) (a_o85_wet : Nat → Int32) (a_o85_heat : Nat → Int32) (a_o85_burns : Nat → Int32) (a_o102_fuel : Nat → Int32) (a_o102_wet : Nat → Int32) (a_o102_burns : Nat → Int32) (a_o107_fuel : Nat → Int32) (a_o107_wet : Nat → Int32) (a_o107_heat : Nat → Int32) (a_o107_burns : Nat → Int32) (a_aims : Nat → Int32) (a_bestAims : Nat → Int32) : Option (Int32 × Int32 × Int32 × (Option Nat) × (Option Nat) × (Nat → Int32) × (Nat → Int32) × (Nat → Int32) × (Nat → Int32) × (Nat → Int32) × (Nat → Int32) × (Nat → Int32) × (Nat → Int32) × (Nat → Int32) × (Nat → Int32)) :=
  if (2 : Int32) = p2 then
    (f12_be i_o102_lost i_o85_lost a_o102_fuel a_o102_wet a_o102_burns a_o85_fuel a_o85_wet a_o85_burns).bind fun rr19 =>
    (whl (fun (s20 : Int32 × Int32 × (Nat → Int32) × (Nat → Int32) × (Nat → Int32) × (Nat → Int32)) => f1_tries_2_s20 i_y_columns i_y_rows i_y_wind s20.1 s20.2.1 s20.2.2.1 s20.2.2.2.1 s20.2.2.2.2.1 s20.2.2.2.2.2) FU ((2 : Int32), rr19.1, rr19.2.1, rr19.2.2.1, a_o85_heat, rr19.2.2.2)).bind fun rl20 =>
    f1_tries_2_e20_0 i_leastLost i_o107_lost x0_o107_yard a_o107_fuel a_o107_wet a_o107_heat a_o107_burns a_aims a_bestAims y rl20
  else
    (whl (fun (s2 : Int32 × Int32 × Int32 × Int32 × Int32 × (Option Nat) × (Option Nat) × (Nat → Int32) × (Nat → Int32) × (Nat → Int32) × (Nat → Int32) × (Nat → Int32) × (Nat → Int32) × (Nat → Int32) × (Nat → Int32) × (Nat → Int32) × (Nat → Int32)) => f1_tries_2_s2 p2 p3 i_y_columns i_y_rows i_y_wind i_o102_lost a_o102_fuel a_o102_wet a_o102_burns y s2.1 s2.2.1 s2.2.2.1 s2.2.2.2.1 s2.2.2.2.2.1 s2.2.2.2.2.2.1 s2.2.2.2.2.2.2.1 s2.2.2.2.2.2.2.2.1 s2.2.2.2.2.2.2.2.2.1 s2.2.2.2.2.2.2.2.2.2.1 s2.2.2.2.2.2.2.2.2.2.2.1 s2.2.2.2.2.2.2.2.2.2.2.2.1 s2.2.2.2.2.2.2.2.2.2.2.2.2.1 s2.2.2.2.2.2.2.2.2.2.2.2.2.2.1 s2.2.2.2.2.2.2.2.2.2.2.2.2.2.2.1 s2.2.2.2.2.2.2.2.2.2.2.2.2.2.2.2.1 s2.2.2.2.2.2.2.2.2.2.2.2.2.2.2.2.2) FU ((0 : Int32), (0 : Int32), i_leastLost, i_o85_lost, i_o107_lost, x0_o85_yard, x0_o107_yard, a_o85_fuel, a_o85_wet, a_o85_heat, a_o85_burns, a_o107_fuel, a_o107_wet, a_o107_heat, a_o107_burns, a_aims, a_bestAims)).bind fun rl2 =>
    f1_tries_2_e2_0 p2 p3 i_y_columns i_y_rows i_y_wind i_o102_lost a_o102_fuel a_o102_wet a_o102_burns y rl2
set_option maxHeartbeats 4000000 in
theorem m1_tries_2 (l : Launch) (G : gG) (K : gK) (I : gI) (J : gJ) (X : gX) (A : gI) (B : gJ) (Q : gX) (o : Nat) (y : Nat) (sh_o : Sh K X o 0 rows0) (sh_y : Sh K X y 3 rows3) (sh_o85 : Sh K X (o + 85) 9 rows9) (sh_o102 : Sh K X (o + 102) 9 rows9) (sh_o107 : Sh K X (o + 107) 9 rows9) (x_o102_yard : X 904 (o + 102) = some y) (x_o_tried : X 36 o = some (o + 85)) (q_st2 : Q (o + 91) (Int32.toNatClampNeg 2) = some (o + 102)) (q_st3 : Q (o + 91) (Int32.toNatClampNeg 3) = some (o + 107)) (p2 : Int32) (p3 : Int32) (i_leastLost : Int32) (i_y_columns : Int32) (i_y_rows : Int32) (i_y_wind : Int32) (i_o85_lost : Int32) (i_o102_lost : Int32) (i_o107_lost : Int32) (x0_o85_yard : Option Nat) (x0_o107_yard : Option Nat) (a_o85_fuel : Nat → Int32) (a_o85_wet : Nat → Int32) (a_o85_heat : Nat → Int32) (a_o85_burns : Nat → Int32) (a_o102_fuel : Nat → Int32) (a_o102_wet : Nat → Int32) (a_o102_burns : Nat → Int32) (a_o107_fuel : Nat → Int32) (a_o107_wet : Nat → Int32) (a_o107_heat : Nat → Int32) (a_o107_burns : Nat → Int32) (a_aims : Nat → Int32) (a_bestAims : Nat → Int32) (e_i_leastLost : I 44 o = i_leastLost) (e_i_y_columns : I 304 y = i_y_columns) (e_i_y_rows : I 305 y = i_y_rows) (e_i_y_wind : I 314 y = i_y_wind) (e_i_o85_lost : I 905 (o + 85) = i_o85_lost) (e_i_o102_lost : I 905 (o + 102) = i_o102_lost) (e_i_o107_lost : I 905 (o + 107) = i_o107_lost) (e_x0_o85_yard : X 904 (o + 85) = x0_o85_yard) (e_x0_o107_yard : X 904 (o + 107) = x0_o107_yard) (e_a_o85_fuel : A (o + 86) = a_o85_fuel) (e_a_o85_wet : A (o + 87) = a_o85_wet) (e_a_o85_heat : A (o + 88) = a_o85_heat) (e_a_o85_burns : A (o + 89) = a_o85_burns) (e_a_o102_fuel : A (o + 103) = a_o102_fuel) (e_a_o102_wet : A (o + 104) = a_o102_wet) (e_a_o102_burns : A (o + 106) = a_o102_burns) (e_a_o107_fuel : A (o + 108) = a_o107_fuel) (e_a_o107_wet : A (o + 109) = a_o107_wet) (e_a_o107_heat : A (o + 110) = a_o107_heat) (e_a_o107_burns : A (o + 111) = a_o107_burns) (e_a_aims : A (o + 112) = a_aims) (e_a_bestAims : A (o + 113) = a_bestAims) (out : Int32 × Int32 × Int32 × (Option Nat) × (Option Nat) × (Nat → Int32) × (Nat → Int32) × (Nat → Int32) × (Nat → Int32) × (Nat → Int32) × (Nat → Int32) × (Nat → Int32) × (Nat → Int32) × (Nat → Int32) × (Nat → Int32)) (hf : f1_tries_2 p2 p3 y i_leastLost i_y_columns i_y_rows i_y_wind i_o85_lost i_o102_lost i_o107_lost x0_o85_yard x0_o107_yard a_o85_fuel a_o85_wet a_o85_heat a_o85_burns a_o102_fuel a_o102_wet a_o102_burns a_o107_fuel a_o107_wet a_o107_heat a_o107_burns a_aims a_bestAims = some out) : GMet l yX1_tries cX1_tries 6 none (7) (165) G [.ref o, .int (2 : Int32), .int p2, .int p3] K I J X A B Q none K (ov I [(44, o, out.1), (905, (o + 85), out.2.1), (905, (o + 107), out.2.2.1)]) J (ov X [(904, (o + 85), out.2.2.2.1), (904, (o + 107), out.2.2.2.2.1)]) (ova A [((o + 86), out.2.2.2.2.2.1), ((o + 87), out.2.2.2.2.2.2.1), ((o + 88), out.2.2.2.2.2.2.2.1), ((o + 89), out.2.2.2.2.2.2.2.2.1), ((o + 103), a_o102_fuel), ((o + 104), a_o102_wet), ((o + 106), a_o102_burns), ((o + 108), out.2.2.2.2.2.2.2.2.2.1), ((o + 109), out.2.2.2.2.2.2.2.2.2.2.1), ((o + 110), out.2.2.2.2.2.2.2.2.2.2.2.1), ((o + 111), out.2.2.2.2.2.2.2.2.2.2.2.2.1), ((o + 112), out.2.2.2.2.2.2.2.2.2.2.2.2.2.1), ((o + 113), out.2.2.2.2.2.2.2.2.2.2.2.2.2.2)]) B Q 0 0 := by
  refine GMet.of (y := yX1_tries) rfl (Nat.le_of_ble_eq_true rfl) rfl ?_
  intro p e s m below meth c ls hx hb hr hml hlocks hts hown hname hG hR hl
  have hown : s.vm.findClass RX1 = some m.cls := hown
  have k_a_o85_fuel : K (o + 86) = some (.inr (0, 64)) := (sh_o85.2 0 _ rfl).1
  have k_a_o85_wet : K (o + 87) = some (.inr (0, 64)) := (sh_o85.2 1 _ rfl).1
  have k_a_o85_heat : K (o + 88) = some (.inr (0, 64)) := (sh_o85.2 2 _ rfl).1
  have k_a_o85_burns : K (o + 89) = some (.inr (1, 64)) := (sh_o85.2 3 _ rfl).1
  have k_a_o102_fuel : K (o + 103) = some (.inr (0, 64)) := (sh_o102.2 0 _ rfl).1
  have k_a_o102_wet : K (o + 104) = some (.inr (0, 64)) := (sh_o102.2 1 _ rfl).1
  have k_a_o102_burns : K (o + 106) = some (.inr (1, 64)) := (sh_o102.2 3 _ rfl).1
  have k_a_o107_fuel : K (o + 108) = some (.inr (0, 64)) := (sh_o107.2 0 _ rfl).1
  have k_a_o107_wet : K (o + 109) = some (.inr (0, 64)) := (sh_o107.2 1 _ rfl).1
  have k_a_o107_heat : K (o + 110) = some (.inr (0, 64)) := (sh_o107.2 2 _ rfl).1
  have k_a_o107_burns : K (o + 111) = some (.inr (1, 64)) := (sh_o107.2 3 _ rfl).1
  have k_a_aims : K (o + 112) = some (.inr (0, 3)) := (sh_o.2 17 _ rfl).1
  have k_a_bestAims : K (o + 113) = some (.inr (0, 3)) := (sh_o.2 18 _ rfl).1
  have hN_A : nda [(o + 86), (o + 87), (o + 88), (o + 89), (o + 103), (o + 104), (o + 106), (o + 108), (o + 109), (o + 110), (o + 111), (o + 112), (o + 113)] := nd_off o [86, 87, 88, 89, 103, 104, 106, 108, 109, 110, 111, 112, 113] rfl
  have hK_I : List.Nodup [((44, o) : Nat × Nat), ((905, (o + 85)) : Nat × Nat), ((905, (o + 107)) : Nat × Nat)] := by simp only [List.nodup_cons, List.mem_cons, List.not_mem_nil, or_false, not_or, not_false_eq_true, List.nodup_nil, and_true, Prod.mk.injEq]; omega
  have hK_X : List.Nodup [((904, (o + 85)) : Nat × Nat), ((904, (o + 107)) : Nat × Nat)] := by simp only [List.nodup_cons, List.mem_cons, List.not_mem_nil, or_false, not_or, not_false_eq_true, List.nodup_nil, and_true, Prod.mk.injEq]; omega
  have hR : RS G K (ov I [(44, o, i_leastLost), (905, (o + 85), i_o85_lost), (905, (o + 107), i_o107_lost)]) J (ov X [(904, (o + 85), x0_o85_yard), (904, (o + 107), x0_o107_yard)]) (ova A [((o + 86), a_o85_fuel), ((o + 87), a_o85_wet), ((o + 88), a_o85_heat), ((o + 89), a_o85_burns), ((o + 103), a_o102_fuel), ((o + 104), a_o102_wet), ((o + 106), a_o102_burns), ((o + 108), a_o107_fuel), ((o + 109), a_o107_wet), ((o + 110), a_o107_heat), ((o + 111), a_o107_burns), ((o + 112), a_aims), ((o + 113), a_bestAims)]) B Q s.heap := hR.to (Eq.symm (ov_sc e_i_leastLost (ov_sc e_i_o85_lost (ov_sc e_i_o107_lost rfl)))) rfl (Eq.symm (ov_sc e_x0_o85_yard (ov_sc e_x0_o107_yard rfl))) (Eq.symm (ova_sc e_a_o85_fuel (ova_sc e_a_o85_wet (ova_sc e_a_o85_heat (ova_sc e_a_o85_burns (ova_sc e_a_o102_fuel (ova_sc e_a_o102_wet (ova_sc e_a_o102_burns (ova_sc e_a_o107_fuel (ova_sc e_a_o107_wet (ova_sc e_a_o107_heat (ova_sc e_a_o107_burns (ova_sc e_a_aims (ova_sc e_a_bestAims rfl)))))))))))))) rfl rfl
  have hS : va_S (gA G) s.heap s.heap [] := va_S.rf
  have hend : ∀ (pc : Nat) (H : Heap) (locs : List Loc) (ls : Array Slot), decode cX1_tries pc = .ok (.return_, 1) → RS G K (ov I [(44, o, out.1), (905, (o + 85), out.2.1), (905, (o + 107), out.2.2.1)]) J (ov X [(904, (o + 85), out.2.2.2.1), (904, (o + 107), out.2.2.2.2.1)]) (ova A [((o + 86), out.2.2.2.2.2.1), ((o + 87), out.2.2.2.2.2.2.1), ((o + 88), out.2.2.2.2.2.2.2.1), ((o + 89), out.2.2.2.2.2.2.2.2.1), ((o + 103), a_o102_fuel), ((o + 104), a_o102_wet), ((o + 106), a_o102_burns), ((o + 108), out.2.2.2.2.2.2.2.2.2.1), ((o + 109), out.2.2.2.2.2.2.2.2.2.2.1), ((o + 110), out.2.2.2.2.2.2.2.2.2.2.2.1), ((o + 111), out.2.2.2.2.2.2.2.2.2.2.2.2.1), ((o + 112), out.2.2.2.2.2.2.2.2.2.2.2.2.2.1), ((o + 113), out.2.2.2.2.2.2.2.2.2.2.2.2.2.2)]) B Q H → va_S (gA G) s.heap H locs → W p l e ({ frames := 7, cells := 0, slots := 0, locals := 165 } : Room) s m ([.ref o, .int (2 : Int32), .int p2, .int p3] : List Value).toArray below meth c H locs 0 0 (MQ below (gQ G none K (ov I [(44, o, out.1), (905, (o + 85), out.2.1), (905, (o + 107), out.2.2.1)]) J (ov X [(904, (o + 85), out.2.2.2.1), (904, (o + 107), out.2.2.2.2.1)]) (ova A [((o + 86), out.2.2.2.2.2.1), ((o + 87), out.2.2.2.2.2.2.1), ((o + 88), out.2.2.2.2.2.2.2.1), ((o + 89), out.2.2.2.2.2.2.2.2.1), ((o + 103), a_o102_fuel), ((o + 104), a_o102_wet), ((o + 106), a_o102_burns), ((o + 108), out.2.2.2.2.2.2.2.2.2.1), ((o + 109), out.2.2.2.2.2.2.2.2.2.2.1), ((o + 110), out.2.2.2.2.2.2.2.2.2.2.2.1), ((o + 111), out.2.2.2.2.2.2.2.2.2.2.2.2.1), ((o + 112), out.2.2.2.2.2.2.2.2.2.2.2.2.2.1), ((o + 113), out.2.2.2.2.2.2.2.2.2.2.2.2.2.2)]) B Q) ([.ref o, .int (2 : Int32), .int p2, .int p3] : List Value).toArray s 0 0 (gA G)) (F0 m pc ls []) := fun pc H locs ls hd hR hS => g_vret hx hb hr hlocks hG hR hS rfl hd
  generalize MQ below (gQ G none K (ov I [(44, o, out.1), (905, (o + 85), out.2.1), (905, (o + 107), out.2.2.1)]) J (ov X [(904, (o + 85), out.2.2.2.1), (904, (o + 107), out.2.2.2.2.1)]) (ova A [((o + 86), out.2.2.2.2.2.1), ((o + 87), out.2.2.2.2.2.2.1), ((o + 88), out.2.2.2.2.2.2.2.1), ((o + 89), out.2.2.2.2.2.2.2.2.1), ((o + 103), a_o102_fuel), ((o + 104), a_o102_wet), ((o + 106), a_o102_burns), ((o + 108), out.2.2.2.2.2.2.2.2.2.1), ((o + 109), out.2.2.2.2.2.2.2.2.2.2.1), ((o + 110), out.2.2.2.2.2.2.2.2.2.2.2.1), ((o + 111), out.2.2.2.2.2.2.2.2.2.2.2.2.1), ((o + 112), out.2.2.2.2.2.2.2.2.2.2.2.2.2.1), ((o + 113), out.2.2.2.2.2.2.2.2.2.2.2.2.2.2)]) B Q) ([.ref o, .int (2 : Int32), .int p2, .int p3] : List Value).toArray s 0 0 (gA G) = Z at hend ⊢
  generalize ([.ref o, .int (2 : Int32), .int p2, .int p3] : List Value).toArray = args at hts hend ⊢
  unfold f1_tries_2 at hf
  refine lv_iload_n hx hb dX1_tries_0 rfl (lv_at hl 1 rfl) ?_
  refine lv_iload_n hx hb dX1_tries_1 rfl (lv_at hl 2 rfl) ?_
  refine lv_icmp_ne (tgt := 84) hx hb dX1_tries_2 (by decide) (fun c1 => ?_) (fun c1 => ?_)
  · have hf := ite_f c1 hf
    refine lv_iconst (v := 0) hx hb dX1_tries_84 li_0 ?_
    refine lv_istore (lv' := [(4, .int (0 : Int32)), (0, .ref o), (1, .int (2 : Int32)), (2, .int p2), (3, .int p3)]) hx hb dX1_tries_85 hl (by decide) rfl (fun ls hl => ?_)
    refine lv_iconst (v := 0) hx hb dX1_tries_87 li_0 ?_
    refine lv_istore (lv' := [(5, .int (0 : Int32)), (4, .int (0 : Int32)), (0, .ref o), (1, .int (2 : Int32)), (2, .int p2), (3, .int p3)]) hx hb dX1_tries_88 hl (by decide) rfl (fun ls hl => ?_)
    obtain ⟨rl2, hw2, hfo2⟩ := bind_s hf
    have hx2_0 : ∀ (x2_0 : Int32 × Int32 × Int32 × (Option Nat) × (Option Nat) × (Nat → Int32) × (Nat → Int32) × (Nat → Int32) × (Nat → Int32) × (Nat → Int32) × (Nat → Int32) × (Nat → Int32) × (Nat → Int32) × (Nat → Int32) × (Nat → Int32)), f1_tries_2_e2_0 p2 p3 i_y_columns i_y_rows i_y_wind i_o102_lost a_o102_fuel a_o102_wet a_o102_burns y x2_0 = some out → ∀ (H : Heap) (locs : List Loc) (ls : Array Slot), RS G K (ov I [(44, o, x2_0.1), (905, (o + 85), x2_0.2.1), (905, (o + 107), x2_0.2.2.1)]) J (ov X [(904, (o + 85), x2_0.2.2.2.1), (904, (o + 107), x2_0.2.2.2.2.1)]) (ova A [((o + 86), x2_0.2.2.2.2.2.1), ((o + 87), x2_0.2.2.2.2.2.2.1), ((o + 88), x2_0.2.2.2.2.2.2.2.1), ((o + 89), x2_0.2.2.2.2.2.2.2.2.1), ((o + 103), a_o102_fuel), ((o + 104), a_o102_wet), ((o + 106), a_o102_burns), ((o + 108), x2_0.2.2.2.2.2.2.2.2.2.1), ((o + 109), x2_0.2.2.2.2.2.2.2.2.2.2.1), ((o + 110), x2_0.2.2.2.2.2.2.2.2.2.2.2.1), ((o + 111), x2_0.2.2.2.2.2.2.2.2.2.2.2.2.1), ((o + 112), x2_0.2.2.2.2.2.2.2.2.2.2.2.2.2.1), ((o + 113), x2_0.2.2.2.2.2.2.2.2.2.2.2.2.2.2)]) B Q H → va_S (gA G) s.heap H locs → lv_has ls 6 [(0, .ref o), (1, .int (2 : Int32)), (2, .int p2), (3, .int p3)] → W p l e ({ frames := 7, cells := 0, slots := 0, locals := 165 } : Room) s m args below meth c H locs 0 0 Z (F0 m 157 ls []) := by
      intro x2_0 hf H locs ls hR hS hl
      unfold f1_tries_2_e2_0 at hf
      refine lv_aload_n hx hb dX1_tries_157 rfl (lv_at hl 0 rfl) ?_
      refine lv_iload_n hx hb dX1_tries_158 rfl (lv_at hl 1 rfl) ?_
      refine lv_iload_n hx hb dX1_tries_159 rfl (lv_at hl 2 rfl) ?_
      refine lv_iload_n hx hb dX1_tries_160 rfl (lv_at hl 3 rfl) ?_
      refine lv_iconst (v := -1) hx hb dX1_tries_161 li_m1 ?_
      refine lv_iconst (v := 0) hx hb dX1_tries_162 li_0 ?_
      obtain ⟨rr3, hrr3, hf⟩ := bind_s hf
      refine g0_cVv (rm := (6, 140)) (As := [.int (2 : Int32), .int p2, .int p3, .int (-1 : Int32), .int (0 : Int32)]) (rest := []) ⟨hx, hb, hml, hown, hts⟩ hG hR hS (m1_next_2 l G K (ov I [(44, o, x2_0.1), (905, (o + 85), x2_0.2.1), (905, (o + 107), x2_0.2.2.1)]) J (ov X [(904, (o + 85), x2_0.2.2.2.1), (904, (o + 107), x2_0.2.2.2.2.1)]) (ova A [((o + 86), x2_0.2.2.2.2.2.1), ((o + 87), x2_0.2.2.2.2.2.2.1), ((o + 88), x2_0.2.2.2.2.2.2.2.1), ((o + 89), x2_0.2.2.2.2.2.2.2.2.1), ((o + 103), a_o102_fuel), ((o + 104), a_o102_wet), ((o + 106), a_o102_burns), ((o + 108), x2_0.2.2.2.2.2.2.2.2.2.1), ((o + 109), x2_0.2.2.2.2.2.2.2.2.2.2.1), ((o + 110), x2_0.2.2.2.2.2.2.2.2.2.2.2.1), ((o + 111), x2_0.2.2.2.2.2.2.2.2.2.2.2.2.1), ((o + 112), x2_0.2.2.2.2.2.2.2.2.2.2.2.2.2.1), ((o + 113), x2_0.2.2.2.2.2.2.2.2.2.2.2.2.2.2)]) B Q o y (Sh.ov rfl sh_o) (Sh.ov rfl sh_y) (Sh.ov rfl sh_o107) (Sh.ov rfl sh_o102) (Sh.ov rfl sh_o85) ((ov_ne (List.forall_mem_cons.mpr ⟨Or.inr (by show (o + 85) ≠ (o + 102); omega), List.forall_mem_cons.mpr ⟨Or.inr (by show (o + 107) ≠ (o + 102); omega), fun _ h => absurd h List.not_mem_nil⟩⟩)).trans x_o102_yard) ((congrFun (ov_no rfl) _).trans x_o_tried) q_st2 q_st3 p2 p3 (-1 : Int32) (0 : Int32) x2_0.1 i_y_columns i_y_rows i_y_wind x2_0.2.1 i_o102_lost x2_0.2.2.1 x2_0.2.2.2.1 x2_0.2.2.2.2.1 x2_0.2.2.2.2.2.1 x2_0.2.2.2.2.2.2.1 x2_0.2.2.2.2.2.2.2.1 x2_0.2.2.2.2.2.2.2.2.1 a_o102_fuel a_o102_wet a_o102_burns x2_0.2.2.2.2.2.2.2.2.2.1 x2_0.2.2.2.2.2.2.2.2.2.2.1 x2_0.2.2.2.2.2.2.2.2.2.2.2.1 x2_0.2.2.2.2.2.2.2.2.2.2.2.2.1 x2_0.2.2.2.2.2.2.2.2.2.2.2.2.2.1 x2_0.2.2.2.2.2.2.2.2.2.2.2.2.2.2 (ovp_get 0 hK_I rfl) ((congrFun (ov_no rfl) _).trans e_i_y_columns) ((congrFun (ov_no rfl) _).trans e_i_y_rows) ((congrFun (ov_no rfl) _).trans e_i_y_wind) (ovp_get 1 hK_I rfl) ((ov_ne (List.forall_mem_cons.mpr ⟨Or.inl (by show (44 : Nat) ≠ 905; decide), List.forall_mem_cons.mpr ⟨Or.inr (by show (o + 85) ≠ (o + 102); omega), List.forall_mem_cons.mpr ⟨Or.inr (by show (o + 107) ≠ (o + 102); omega), fun _ h => absurd h List.not_mem_nil⟩⟩⟩)).trans e_i_o102_lost) (ovp_get 2 hK_I rfl) (ovp_get 0 hK_X rfl) (ovp_get 1 hK_X rfl) (ova_get 0 hN_A rfl) (ova_get 1 hN_A rfl) (ova_get 2 hN_A rfl) (ova_get 3 hN_A rfl) (ova_get 4 hN_A rfl) (ova_get 5 hN_A rfl) (ova_get 6 hN_A rfl) (ova_get 7 hN_A rfl) (ova_get 8 hN_A rfl) (ova_get 9 hN_A rfl) (ova_get 10 hN_A rfl) (ova_get 11 hN_A rfl) (ova_get 12 hN_A rfl) rr3 hrr3) (cwV 5 hts gi_X1_478 rfl rfl rfl hd_X1_next ⟨Nat.le_of_ble_eq_true rfl, Nat.le_of_ble_eq_true rfl⟩) sh_o.1 rfl rfl hl.1 (Nat.le_of_ble_eq_true rfl) dX1_tries_163 ⟨Nat.le_refl _, Nat.le_refl _⟩ rfl (fun H locs hR hS => ?_)
      have hR : RS G K (ov I [(44, o, rr3.1), (905, (o + 85), rr3.2.1), (905, (o + 107), rr3.2.2.1)]) J (ov X [(904, (o + 85), rr3.2.2.2.1), (904, (o + 107), rr3.2.2.2.2.1)]) (ova A [((o + 86), rr3.2.2.2.2.2.1), ((o + 87), rr3.2.2.2.2.2.2.1), ((o + 88), rr3.2.2.2.2.2.2.2.1), ((o + 89), rr3.2.2.2.2.2.2.2.2.1), ((o + 103), a_o102_fuel), ((o + 104), a_o102_wet), ((o + 106), a_o102_burns), ((o + 108), rr3.2.2.2.2.2.2.2.2.2.1), ((o + 109), rr3.2.2.2.2.2.2.2.2.2.2.1), ((o + 110), rr3.2.2.2.2.2.2.2.2.2.2.2.1), ((o + 111), rr3.2.2.2.2.2.2.2.2.2.2.2.2.1), ((o + 112), rr3.2.2.2.2.2.2.2.2.2.2.2.2.2.1), ((o + 113), rr3.2.2.2.2.2.2.2.2.2.2.2.2.2.2)]) B Q H := hR.to (ovp_merge (l := [(44, o, x2_0.1), (905, (o + 85), x2_0.2.1), (905, (o + 107), x2_0.2.2.1)]) hK_I [0, 1, 2] [(44, o, rr3.1), (905, (o + 85), rr3.2.1), (905, (o + 107), rr3.2.2.1)] rfl rfl) rfl (ovp_merge (l := [(904, (o + 85), x2_0.2.2.2.1), (904, (o + 107), x2_0.2.2.2.2.1)]) hK_X [0, 1] [(904, (o + 85), rr3.2.2.2.1), (904, (o + 107), rr3.2.2.2.2.1)] rfl rfl) (ova_over (l := [((o + 86), x2_0.2.2.2.2.2.1), ((o + 87), x2_0.2.2.2.2.2.2.1), ((o + 88), x2_0.2.2.2.2.2.2.2.1), ((o + 89), x2_0.2.2.2.2.2.2.2.2.1), ((o + 103), a_o102_fuel), ((o + 104), a_o102_wet), ((o + 106), a_o102_burns), ((o + 108), x2_0.2.2.2.2.2.2.2.2.2.1), ((o + 109), x2_0.2.2.2.2.2.2.2.2.2.2.1), ((o + 110), x2_0.2.2.2.2.2.2.2.2.2.2.2.1), ((o + 111), x2_0.2.2.2.2.2.2.2.2.2.2.2.2.1), ((o + 112), x2_0.2.2.2.2.2.2.2.2.2.2.2.2.2.1), ((o + 113), x2_0.2.2.2.2.2.2.2.2.2.2.2.2.2.2)]) rfl) rfl rfl
      obtain rfl := some_i hf
      exact hend _ _ _ _ dX1_tries_166 hR hS
    refine whl_walk (P := fun (s2 : Int32 × Int32 × Int32 × Int32 × Int32 × (Option Nat) × (Option Nat) × (Nat → Int32) × (Nat → Int32) × (Nat → Int32) × (Nat → Int32) × (Nat → Int32) × (Nat → Int32) × (Nat → Int32) × (Nat → Int32) × (Nat → Int32) × (Nat → Int32)) => ∀ (H : Heap) (locs : List Loc) (ls : Array Slot), RS G K (ov I [(44, o, s2.2.2.1), (905, (o + 85), s2.2.2.2.1), (905, (o + 107), s2.2.2.2.2.1)]) J (ov X [(904, (o + 85), s2.2.2.2.2.2.1), (904, (o + 107), s2.2.2.2.2.2.2.1)]) (ova A [((o + 86), s2.2.2.2.2.2.2.2.1), ((o + 87), s2.2.2.2.2.2.2.2.2.1), ((o + 88), s2.2.2.2.2.2.2.2.2.2.1), ((o + 89), s2.2.2.2.2.2.2.2.2.2.2.1), ((o + 103), a_o102_fuel), ((o + 104), a_o102_wet), ((o + 106), a_o102_burns), ((o + 108), s2.2.2.2.2.2.2.2.2.2.2.2.1), ((o + 109), s2.2.2.2.2.2.2.2.2.2.2.2.2.1), ((o + 110), s2.2.2.2.2.2.2.2.2.2.2.2.2.2.1), ((o + 111), s2.2.2.2.2.2.2.2.2.2.2.2.2.2.2.1), ((o + 112), s2.2.2.2.2.2.2.2.2.2.2.2.2.2.2.2.1), ((o + 113), s2.2.2.2.2.2.2.2.2.2.2.2.2.2.2.2.2)]) B Q H → va_S (gA G) s.heap H locs → lv_has ls 6 [(0, .ref o), (1, .int (2 : Int32)), (2, .int p2), (3, .int p3), (4, .int s2.1), (5, .int s2.2.1)] → W p l e ({ frames := 7, cells := 0, slots := 0, locals := 165 } : Room) s m args below meth c H locs 0 0 Z (F0 m 90 ls [])) (r := rl2) ?_ FU _ hw2 _ _ _ hR hS (lv_sub hl [2, 3, 4, 5, 1, 0] rfl)
    clear hR hS hl hf
    intro s2 o2 hf hk2 H locs ls hR hS hl
    obtain ⟨w2_4, w2_5, w2_i_leastLost, w2_i_o85_lost, w2_i_o107_lost, w2_x0_o85_yard, w2_x0_o107_yard, w2_a_o85_fuel, w2_a_o85_wet, w2_a_o85_heat, w2_a_o85_burns, w2_a_o107_fuel, w2_a_o107_wet, w2_a_o107_heat, w2_a_o107_burns, w2_a_aims, w2_a_bestAims⟩ := s2
    have hf : f1_tries_2_s2 p2 p3 i_y_columns i_y_rows i_y_wind i_o102_lost a_o102_fuel a_o102_wet a_o102_burns y w2_4 w2_5 w2_i_leastLost w2_i_o85_lost w2_i_o107_lost w2_x0_o85_yard w2_x0_o107_yard w2_a_o85_fuel w2_a_o85_wet w2_a_o85_heat w2_a_o85_burns w2_a_o107_fuel w2_a_o107_wet w2_a_o107_heat w2_a_o107_burns w2_a_aims w2_a_bestAims = some o2 := hf
    have hR : RS G K (ov I [(44, o, w2_i_leastLost), (905, (o + 85), w2_i_o85_lost), (905, (o + 107), w2_i_o107_lost)]) J (ov X [(904, (o + 85), w2_x0_o85_yard), (904, (o + 107), w2_x0_o107_yard)]) (ova A [((o + 86), w2_a_o85_fuel), ((o + 87), w2_a_o85_wet), ((o + 88), w2_a_o85_heat), ((o + 89), w2_a_o85_burns), ((o + 103), a_o102_fuel), ((o + 104), a_o102_wet), ((o + 106), a_o102_burns), ((o + 108), w2_a_o107_fuel), ((o + 109), w2_a_o107_wet), ((o + 110), w2_a_o107_heat), ((o + 111), w2_a_o107_burns), ((o + 112), w2_a_aims), ((o + 113), w2_a_bestAims)]) B Q H := hR
    have hl : lv_has ls 6 [(0, .ref o), (1, .int (2 : Int32)), (2, .int p2), (3, .int p3), (4, .int w2_4), (5, .int w2_5)] := hl
    unfold f1_tries_2_s2 at hf
    refine lv_iload hx hb dX1_tries_90 (lv_at hl 5 rfl) ?_
    refine lv_bipush (v := 64) hx hb dX1_tries_92 lb_64 ?_
    refine lv_icmp_ge (tgt := 157) hx hb dX1_tries_94 (by decide) (fun c4 => ?_) (fun c4 => ?_)
    · have hf := ite_t c4 hf
      obtain rfl := some_i hf
      replace hk2 : _ = rl2 := hk2
      subst hk2
      exact hx2_0 (w2_i_leastLost, w2_i_o85_lost, w2_i_o107_lost, w2_x0_o85_yard, w2_x0_o107_yard, w2_a_o85_fuel, w2_a_o85_wet, w2_a_o85_heat, w2_a_o85_burns, w2_a_o107_fuel, w2_a_o107_wet, w2_a_o107_heat, w2_a_o107_burns, w2_a_aims, w2_a_bestAims) hfo2 _ _ _ hR hS (lv_sub hl [0, 1, 2, 3] rfl)
    · have hf := ite_f c4 hf
      refine lv_iload hx hb dX1_tries_97 (lv_at hl 4 rfl) ?_
      refine lv_bipush (v := 8) hx hb dX1_tries_99 lb_8 ?_
      refine lv_icmp_ge (tgt := 157) hx hb dX1_tries_101 (by decide) (fun c5 => ?_) (fun c5 => ?_)
      · have hf := ite_t c5 hf
        obtain rfl := some_i hf
        replace hk2 : _ = rl2 := hk2
        subst hk2
        exact hx2_0 (w2_i_leastLost, w2_i_o85_lost, w2_i_o107_lost, w2_x0_o85_yard, w2_x0_o107_yard, w2_a_o85_fuel, w2_a_o85_wet, w2_a_o85_heat, w2_a_o85_burns, w2_a_o107_fuel, w2_a_o107_wet, w2_a_o107_heat, w2_a_o107_burns, w2_a_aims, w2_a_bestAims) hfo2 _ _ _ hR hS (lv_sub hl [0, 1, 2, 3] rfl)
      · have hf := ite_f c5 hf
        refine lv_aload_n hx hb dX1_tries_104 rfl (lv_at hl 0 rfl) ?_
        refine g_getr (b := (o + 91)) hx hb hts hown hG hR gFx_X1_180_0 sh_o.1 ((congrFun (ov_no rfl) _).trans ((sh_o.2 16 _ rfl).2)) dX1_tries_105 ?_
        refine lv_iload_n hx hb dX1_tries_108 rfl (lv_at hl 1 rfl) ?_
        refine g_aaldr (b := (o + 102)) hx hb hG hR (t := 2) ((sh_o.2 16 _ rfl).1) (by decide) (show inb 2 4 by decide) q_st2 dX1_tries_109 ?_
        refine g_getr (b := (o + 106)) hx hb hts hown hG hR gFx_X1_463_9 sh_o102.1 ((congrFun (ov_no rfl) _).trans ((sh_o102.2 3 _ rfl).2)) dX1_tries_110 ?_
        refine lv_iload hx hb dX1_tries_113 (lv_at hl 5 rfl) ?_
        obtain ⟨c6, hf⟩ := gd_some hf
        obtain ⟨v7, ev7, hf⟩ := lt_some hf
        refine n_zald (x := a_o102_burns) hx hb hG hR k_a_o102_burns c6 (ova_get 6 hN_A rfl) ev7 dX1_tries_115 ?_
        have hj151 : ∀ (j151_4 : Int32) (j151_i_leastLost : Int32) (j151_i_o85_lost : Int32) (j151_i_o107_lost : Int32) (j151_x0_o85_yard : Option Nat) (j151_x0_o107_yard : Option Nat) (j151_a_o85_fuel : Nat → Int32) (j151_a_o85_wet : Nat → Int32) (j151_a_o85_heat : Nat → Int32) (j151_a_o85_burns : Nat → Int32) (j151_a_o107_fuel : Nat → Int32) (j151_a_o107_wet : Nat → Int32) (j151_a_o107_heat : Nat → Int32) (j151_a_o107_burns : Nat → Int32) (j151_a_aims : Nat → Int32) (j151_a_bestAims : Nat → Int32), f1_tries_2_j151 w2_5 j151_4 j151_i_leastLost j151_i_o85_lost j151_i_o107_lost j151_x0_o85_yard j151_x0_o107_yard j151_a_o85_fuel j151_a_o85_wet j151_a_o85_heat j151_a_o85_burns j151_a_o107_fuel j151_a_o107_wet j151_a_o107_heat j151_a_o107_burns j151_a_aims j151_a_bestAims = some o2 → ∀ (H : Heap) (locs : List Loc) (ls : Array Slot), RS G K (ov I [(44, o, j151_i_leastLost), (905, (o + 85), j151_i_o85_lost), (905, (o + 107), j151_i_o107_lost)]) J (ov X [(904, (o + 85), j151_x0_o85_yard), (904, (o + 107), j151_x0_o107_yard)]) (ova A [((o + 86), j151_a_o85_fuel), ((o + 87), j151_a_o85_wet), ((o + 88), j151_a_o85_heat), ((o + 89), j151_a_o85_burns), ((o + 103), a_o102_fuel), ((o + 104), a_o102_wet), ((o + 106), a_o102_burns), ((o + 108), j151_a_o107_fuel), ((o + 109), j151_a_o107_wet), ((o + 110), j151_a_o107_heat), ((o + 111), j151_a_o107_burns), ((o + 112), j151_a_aims), ((o + 113), j151_a_bestAims)]) B Q H → va_S (gA G) s.heap H locs → lv_has ls 6 [(0, .ref o), (1, .int (2 : Int32)), (2, .int p2), (3, .int p3), (4, .int j151_4), (5, .int w2_5)] → W p l e ({ frames := 7, cells := 0, slots := 0, locals := 165 } : Room) s m args below meth c H locs 0 0 Z (F0 m 151 ls []) := by
          intro j151_4 j151_i_leastLost j151_i_o85_lost j151_i_o107_lost j151_x0_o85_yard j151_x0_o107_yard j151_a_o85_fuel j151_a_o85_wet j151_a_o85_heat j151_a_o85_burns j151_a_o107_fuel j151_a_o107_wet j151_a_o107_heat j151_a_o107_burns j151_a_aims j151_a_bestAims hf H locs ls hR hS hl
          unfold f1_tries_2_j151 at hf
          obtain ⟨v8, ev8, hf⟩ := lt_some hf
          refine lv_iinc (k := 5) (v := v8) (lv' := [(5, .int v8), (0, .ref o), (1, .int (2 : Int32)), (2, .int p2), (3, .int p3), (4, .int j151_4)]) hx hb dX1_tries_151 hl rfl (by rw [ev8]; rfl) (by decide) rfl (fun ls hl => ?_)
          refine lv_goto (tgt := 90) hx hb dX1_tries_154 (by decide) ?_
          obtain rfl := some_i hf
          exact hk2 _ _ _ hR hS (lv_sub hl [1, 2, 3, 4, 5, 0] rfl)
        refine lv_if_ne (tgt := 122) hx hb dX1_tries_116 (by decide) (fun c9 => ?_) (fun c9 => ?_)
        · have hf := ite_f c9 hf
          obtain ⟨v10, ev10, hf⟩ := lt_some hf
          refine lv_iinc (k := 4) (v := v10) (lv' := [(4, .int v10), (0, .ref o), (1, .int (2 : Int32)), (2, .int p2), (3, .int p3), (5, .int w2_5)]) hx hb dX1_tries_122 hl rfl (by rw [ev10]; rfl) (by decide) rfl (fun ls hl => ?_)
          refine lv_aload_n hx hb dX1_tries_125 rfl (lv_at hl 1 rfl) ?_
          refine lv_iload_n hx hb dX1_tries_126 rfl (lv_at hl 2 rfl) ?_
          refine lv_iload_n hx hb dX1_tries_127 rfl (lv_at hl 3 rfl) ?_
          refine lv_iload_n hx hb dX1_tries_128 rfl (lv_at hl 4 rfl) ?_
          refine lv_iload hx hb dX1_tries_129 (lv_at hl 5 rfl) ?_
          refine lv_bipush (v := 100) hx hb dX1_tries_131 lb_100 ?_
          refine lv_bipush (v := 10) hx hb dX1_tries_133 lb_10 ?_
          refine lv_iload hx hb dX1_tries_135 (lv_at hl 5 rfl) ?_
          refine lv_bipush (v := 8) hx hb dX1_tries_137 lb_8 ?_
          obtain ⟨c12, hf⟩ := gd_some hf
          obtain ⟨v11, ev11, hf⟩ := lt_some hf
          refine n_idiv hx hb c12 ev11 dX1_tries_139 ?_
          obtain ⟨v13, ev13, hf⟩ := lt_some hf
          refine n_imul hx hb ev13 dX1_tries_140 ?_
          obtain ⟨v14, ev14, hf⟩ := lt_some hf
          refine n_iadd hx hb ev14 dX1_tries_141 ?_
          refine lv_iload hx hb dX1_tries_142 (lv_at hl 5 rfl) ?_
          refine lv_bipush (v := 8) hx hb dX1_tries_144 lb_8 ?_
          obtain ⟨c16, hf⟩ := gd_some hf
          obtain ⟨v15, ev15, hf⟩ := lt_some hf
          refine n_irem hx hb c16 ev15 dX1_tries_146 ?_
          obtain ⟨v17, ev17, hf⟩ := lt_some hf
          refine n_iadd hx hb ev17 dX1_tries_147 ?_
          obtain ⟨rr18, hrr18, hf⟩ := bind_s hf
          refine g0_cVv (rm := (6, 140)) (As := [.int (2 : Int32), .int p2, .int p3, .int w2_5, .int v17]) (rest := []) ⟨hx, hb, hml, hown, hts⟩ hG hR hS (m1_next_2 l G K (ov I [(44, o, w2_i_leastLost), (905, (o + 85), w2_i_o85_lost), (905, (o + 107), w2_i_o107_lost)]) J (ov X [(904, (o + 85), w2_x0_o85_yard), (904, (o + 107), w2_x0_o107_yard)]) (ova A [((o + 86), w2_a_o85_fuel), ((o + 87), w2_a_o85_wet), ((o + 88), w2_a_o85_heat), ((o + 89), w2_a_o85_burns), ((o + 103), a_o102_fuel), ((o + 104), a_o102_wet), ((o + 106), a_o102_burns), ((o + 108), w2_a_o107_fuel), ((o + 109), w2_a_o107_wet), ((o + 110), w2_a_o107_heat), ((o + 111), w2_a_o107_burns), ((o + 112), w2_a_aims), ((o + 113), w2_a_bestAims)]) B Q o y (Sh.ov rfl sh_o) (Sh.ov rfl sh_y) (Sh.ov rfl sh_o107) (Sh.ov rfl sh_o102) (Sh.ov rfl sh_o85) ((ov_ne (List.forall_mem_cons.mpr ⟨Or.inr (by show (o + 85) ≠ (o + 102); omega), List.forall_mem_cons.mpr ⟨Or.inr (by show (o + 107) ≠ (o + 102); omega), fun _ h => absurd h List.not_mem_nil⟩⟩)).trans x_o102_yard) ((congrFun (ov_no rfl) _).trans x_o_tried) q_st2 q_st3 p2 p3 w2_5 v17 w2_i_leastLost i_y_columns i_y_rows i_y_wind w2_i_o85_lost i_o102_lost w2_i_o107_lost w2_x0_o85_yard w2_x0_o107_yard w2_a_o85_fuel w2_a_o85_wet w2_a_o85_heat w2_a_o85_burns a_o102_fuel a_o102_wet a_o102_burns w2_a_o107_fuel w2_a_o107_wet w2_a_o107_heat w2_a_o107_burns w2_a_aims w2_a_bestAims (ovp_get 0 hK_I rfl) ((congrFun (ov_no rfl) _).trans e_i_y_columns) ((congrFun (ov_no rfl) _).trans e_i_y_rows) ((congrFun (ov_no rfl) _).trans e_i_y_wind) (ovp_get 1 hK_I rfl) ((ov_ne (List.forall_mem_cons.mpr ⟨Or.inl (by show (44 : Nat) ≠ 905; decide), List.forall_mem_cons.mpr ⟨Or.inr (by show (o + 85) ≠ (o + 102); omega), List.forall_mem_cons.mpr ⟨Or.inr (by show (o + 107) ≠ (o + 102); omega), fun _ h => absurd h List.not_mem_nil⟩⟩⟩)).trans e_i_o102_lost) (ovp_get 2 hK_I rfl) (ovp_get 0 hK_X rfl) (ovp_get 1 hK_X rfl) (ova_get 0 hN_A rfl) (ova_get 1 hN_A rfl) (ova_get 2 hN_A rfl) (ova_get 3 hN_A rfl) (ova_get 4 hN_A rfl) (ova_get 5 hN_A rfl) (ova_get 6 hN_A rfl) (ova_get 7 hN_A rfl) (ova_get 8 hN_A rfl) (ova_get 9 hN_A rfl) (ova_get 10 hN_A rfl) (ova_get 11 hN_A rfl) (ova_get 12 hN_A rfl) rr18 hrr18) (cwV 5 hts gi_X1_478 rfl rfl rfl hd_X1_next ⟨Nat.le_of_ble_eq_true rfl, Nat.le_of_ble_eq_true rfl⟩) sh_o.1 rfl rfl hl.1 (Nat.le_of_ble_eq_true rfl) dX1_tries_148 ⟨Nat.le_refl _, Nat.le_refl _⟩ rfl (fun H locs hR hS => ?_)
          have hR : RS G K (ov I [(44, o, rr18.1), (905, (o + 85), rr18.2.1), (905, (o + 107), rr18.2.2.1)]) J (ov X [(904, (o + 85), rr18.2.2.2.1), (904, (o + 107), rr18.2.2.2.2.1)]) (ova A [((o + 86), rr18.2.2.2.2.2.1), ((o + 87), rr18.2.2.2.2.2.2.1), ((o + 88), rr18.2.2.2.2.2.2.2.1), ((o + 89), rr18.2.2.2.2.2.2.2.2.1), ((o + 103), a_o102_fuel), ((o + 104), a_o102_wet), ((o + 106), a_o102_burns), ((o + 108), rr18.2.2.2.2.2.2.2.2.2.1), ((o + 109), rr18.2.2.2.2.2.2.2.2.2.2.1), ((o + 110), rr18.2.2.2.2.2.2.2.2.2.2.2.1), ((o + 111), rr18.2.2.2.2.2.2.2.2.2.2.2.2.1), ((o + 112), rr18.2.2.2.2.2.2.2.2.2.2.2.2.2.1), ((o + 113), rr18.2.2.2.2.2.2.2.2.2.2.2.2.2.2)]) B Q H := hR.to (ovp_merge (l := [(44, o, w2_i_leastLost), (905, (o + 85), w2_i_o85_lost), (905, (o + 107), w2_i_o107_lost)]) hK_I [0, 1, 2] [(44, o, rr18.1), (905, (o + 85), rr18.2.1), (905, (o + 107), rr18.2.2.1)] rfl rfl) rfl (ovp_merge (l := [(904, (o + 85), w2_x0_o85_yard), (904, (o + 107), w2_x0_o107_yard)]) hK_X [0, 1] [(904, (o + 85), rr18.2.2.2.1), (904, (o + 107), rr18.2.2.2.2.1)] rfl rfl) (ova_over (l := [((o + 86), w2_a_o85_fuel), ((o + 87), w2_a_o85_wet), ((o + 88), w2_a_o85_heat), ((o + 89), w2_a_o85_burns), ((o + 103), a_o102_fuel), ((o + 104), a_o102_wet), ((o + 106), a_o102_burns), ((o + 108), w2_a_o107_fuel), ((o + 109), w2_a_o107_wet), ((o + 110), w2_a_o107_heat), ((o + 111), w2_a_o107_burns), ((o + 112), w2_a_aims), ((o + 113), w2_a_bestAims)]) rfl) rfl rfl
          exact hj151 v10 rr18.1 rr18.2.1 rr18.2.2.1 rr18.2.2.2.1 rr18.2.2.2.2.1 rr18.2.2.2.2.2.1 rr18.2.2.2.2.2.2.1 rr18.2.2.2.2.2.2.2.1 rr18.2.2.2.2.2.2.2.2.1 rr18.2.2.2.2.2.2.2.2.2.1 rr18.2.2.2.2.2.2.2.2.2.2.1 rr18.2.2.2.2.2.2.2.2.2.2.2.1 rr18.2.2.2.2.2.2.2.2.2.2.2.2.1 rr18.2.2.2.2.2.2.2.2.2.2.2.2.2.1 rr18.2.2.2.2.2.2.2.2.2.2.2.2.2.2 hf _ _ _ hR hS (lv_sub hl [1, 2, 3, 4, 0, 5] rfl)
        · have hf := ite_t c9 hf
          refine lv_goto (tgt := 151) hx hb dX1_tries_119 (by decide) ?_
          exact hj151 w2_4 w2_i_leastLost w2_i_o85_lost w2_i_o107_lost w2_x0_o85_yard w2_x0_o107_yard w2_a_o85_fuel w2_a_o85_wet w2_a_o85_heat w2_a_o85_burns w2_a_o107_fuel w2_a_o107_wet w2_a_o107_heat w2_a_o107_burns w2_a_aims w2_a_bestAims hf _ _ _ hR hS (lv_sub hl [0, 1, 2, 3, 4, 5] rfl)
  · have hf := ite_t c1 hf
    refine lv_aload_n hx hb dX1_tries_5 rfl (lv_at hl 0 rfl) ?_
    refine g_getr (b := (o + 85)) hx hb hts hown hG hR gFx_X1_173_0 sh_o.1 ((congrFun (ov_no rfl) _).trans x_o_tried) dX1_tries_6 ?_
    refine lv_aload_n hx hb dX1_tries_9 rfl (lv_at hl 0 rfl) ?_
    refine g_getr (b := (o + 91)) hx hb hts hown hG hR gFx_X1_180_0 sh_o.1 ((congrFun (ov_no rfl) _).trans ((sh_o.2 16 _ rfl).2)) dX1_tries_10 ?_
    refine lv_iload_n hx hb dX1_tries_13 rfl (lv_at hl 1 rfl) ?_
    refine g_aaldr (b := (o + 102)) hx hb hG hR (t := 2) ((sh_o.2 16 _ rfl).1) (by decide) (show inb 2 4 by decide) q_st2 dX1_tries_14 ?_
    obtain ⟨rr19, hrr19, hf⟩ := bind_s hf
    refine g0_cVv (rm := (1, 26)) (As := [.ref (o + 102)]) (rest := []) ⟨hx, hb, hml, hown, hts⟩ hG hR hS (m12_be l G K (ov I [(44, o, i_leastLost), (905, (o + 85), i_o85_lost), (905, (o + 107), i_o107_lost)]) J (ov X [(904, (o + 85), x0_o85_yard), (904, (o + 107), x0_o107_yard)]) (ova A [((o + 86), a_o85_fuel), ((o + 87), a_o85_wet), ((o + 88), a_o85_heat), ((o + 89), a_o85_burns), ((o + 103), a_o102_fuel), ((o + 104), a_o102_wet), ((o + 106), a_o102_burns), ((o + 108), a_o107_fuel), ((o + 109), a_o107_wet), ((o + 110), a_o107_heat), ((o + 111), a_o107_burns), ((o + 112), a_aims), ((o + 113), a_bestAims)]) B Q (o + 85) (o + 102) y (Sh.ov rfl sh_o85) (Sh.ov rfl sh_o102) (Sh.ov rfl sh_y) ((ov_ne (List.forall_mem_cons.mpr ⟨Or.inr (by show (o + 85) ≠ (o + 102); omega), List.forall_mem_cons.mpr ⟨Or.inr (by show (o + 107) ≠ (o + 102); omega), fun _ h => absurd h List.not_mem_nil⟩⟩)).trans x_o102_yard) (by omega) i_o102_lost i_o85_lost x0_o85_yard a_o102_fuel a_o102_wet a_o102_burns a_o85_fuel a_o85_wet a_o85_burns ((ov_ne (List.forall_mem_cons.mpr ⟨Or.inl (by show (44 : Nat) ≠ 905; decide), List.forall_mem_cons.mpr ⟨Or.inr (by show (o + 85) ≠ (o + 102); omega), List.forall_mem_cons.mpr ⟨Or.inr (by show (o + 107) ≠ (o + 102); omega), fun _ h => absurd h List.not_mem_nil⟩⟩⟩)).trans e_i_o102_lost) (ovp_get 1 hK_I rfl) (ovp_get 0 hK_X rfl) (ova_get 4 hN_A rfl) (ova_get 5 hN_A rfl) (ova_get 6 hN_A rfl) (ova_get 0 hN_A rfl) (ova_get 1 hN_A rfl) (ova_get 3 hN_A rfl) rr19 hrr19) (cwV 1 hts gi_X1_450 rfl rfl rfl hd_X12_be ⟨Nat.le_of_ble_eq_true rfl, Nat.le_of_ble_eq_true rfl⟩) sh_o85.1 rfl rfl hl.1 (Nat.le_of_ble_eq_true rfl) dX1_tries_15 ⟨Nat.le_refl _, Nat.le_refl _⟩ rfl (fun H locs hR hS => ?_)
    have hR : RS G K (ov I [(44, o, i_leastLost), (905, (o + 85), rr19.1), (905, (o + 107), i_o107_lost)]) J (ov X [(904, (o + 85), (some y)), (904, (o + 107), x0_o107_yard)]) (ova A [((o + 86), rr19.2.1), ((o + 87), rr19.2.2.1), ((o + 88), a_o85_heat), ((o + 89), rr19.2.2.2), ((o + 103), a_o102_fuel), ((o + 104), a_o102_wet), ((o + 106), a_o102_burns), ((o + 108), a_o107_fuel), ((o + 109), a_o107_wet), ((o + 110), a_o107_heat), ((o + 111), a_o107_burns), ((o + 112), a_aims), ((o + 113), a_bestAims)]) B Q H := hR.to (ovp_merge (l := [(44, o, i_leastLost), (905, (o + 85), i_o85_lost), (905, (o + 107), i_o107_lost)]) hK_I [1] [(905, (o + 85), rr19.1)] rfl rfl) rfl (ovp_merge (l := [(904, (o + 85), x0_o85_yard), (904, (o + 107), x0_o107_yard)]) hK_X [0] [(904, (o + 85), (some y))] rfl rfl) (ova_merge (l := [((o + 86), a_o85_fuel), ((o + 87), a_o85_wet), ((o + 88), a_o85_heat), ((o + 89), a_o85_burns), ((o + 103), a_o102_fuel), ((o + 104), a_o102_wet), ((o + 106), a_o102_burns), ((o + 108), a_o107_fuel), ((o + 109), a_o107_wet), ((o + 110), a_o107_heat), ((o + 111), a_o107_burns), ((o + 112), a_aims), ((o + 113), a_bestAims)]) hN_A [4, 5, 6, 0, 1, 3] [((o + 103), a_o102_fuel), ((o + 104), a_o102_wet), ((o + 106), a_o102_burns), ((o + 86), rr19.2.1), ((o + 87), rr19.2.2.1), ((o + 89), rr19.2.2.2)] rfl rfl) rfl rfl
    refine lv_iload_n hx hb dX1_tries_18 rfl (lv_at hl 1 rfl) ?_
    refine lv_istore (lv' := [(4, .int (2 : Int32)), (0, .ref o), (1, .int (2 : Int32)), (2, .int p2), (3, .int p3)]) hx hb dX1_tries_19 hl (by decide) rfl (fun ls hl => ?_)
    obtain ⟨rl20, hw20, hfo20⟩ := bind_s hf
    have hx20_0 : ∀ (x20_0 : Int32 × (Nat → Int32) × (Nat → Int32) × (Nat → Int32) × (Nat → Int32)), f1_tries_2_e20_0 i_leastLost i_o107_lost x0_o107_yard a_o107_fuel a_o107_wet a_o107_heat a_o107_burns a_aims a_bestAims y x20_0 = some out → ∀ (H : Heap) (locs : List Loc) (ls : Array Slot), RS G K (ov I [(44, o, i_leastLost), (905, (o + 85), x20_0.1), (905, (o + 107), i_o107_lost)]) J (ov X [(904, (o + 85), (some y)), (904, (o + 107), x0_o107_yard)]) (ova A [((o + 86), x20_0.2.1), ((o + 87), x20_0.2.2.1), ((o + 88), x20_0.2.2.2.1), ((o + 89), x20_0.2.2.2.2), ((o + 103), a_o102_fuel), ((o + 104), a_o102_wet), ((o + 106), a_o102_burns), ((o + 108), a_o107_fuel), ((o + 109), a_o107_wet), ((o + 110), a_o107_heat), ((o + 111), a_o107_burns), ((o + 112), a_aims), ((o + 113), a_bestAims)]) B Q H → va_S (gA G) s.heap H locs → lv_has ls 6 [(0, .ref o), (1, .int (2 : Int32))] → W p l e ({ frames := 7, cells := 0, slots := 0, locals := 165 } : Room) s m args below meth c H locs 0 0 Z (F0 m 43 ls []) := by
      intro x20_0 hf H locs ls hR hS hl
      unfold f1_tries_2_e20_0 at hf
      refine lv_aload_n hx hb dX1_tries_43 rfl (lv_at hl 0 rfl) ?_
      refine g_getr (b := (o + 85)) hx hb hts hown hG hR gFx_X1_173_0 sh_o.1 ((congrFun (ov_no rfl) _).trans x_o_tried) dX1_tries_44 ?_
      refine n_geti (v := x20_0.1) hx hb hts hown hG hR gFi_X1_459_9 sh_o85.1 (ovp_get 1 hK_I rfl) dX1_tries_47 ?_
      refine lv_aload_n hx hb dX1_tries_50 rfl (lv_at hl 0 rfl) ?_
      refine n_geti (v := i_leastLost) hx hb hts hown hG hR gFi_X1_469_0 sh_o.1 (ovp_get 0 hK_I rfl) dX1_tries_51 ?_
      refine lv_icmp_lt (tgt := 58) hx hb dX1_tries_54 (by decide) (fun c21 => ?_) (fun c21 => ?_)
      · have hf := ite_t c21 hf
        refine lv_aload_n hx hb dX1_tries_58 rfl (lv_at hl 0 rfl) ?_
        refine lv_aload_n hx hb dX1_tries_59 rfl (lv_at hl 0 rfl) ?_
        refine g_getr (b := (o + 85)) hx hb hts hown hG hR gFx_X1_173_0 sh_o.1 ((congrFun (ov_no rfl) _).trans x_o_tried) dX1_tries_60 ?_
        refine n_geti (v := x20_0.1) hx hb hts hown hG hR gFi_X1_459_9 sh_o85.1 (ovp_get 1 hK_I rfl) dX1_tries_63 ?_
        refine n_puti (li' := [(44, o, x20_0.1), (905, (o + 85), x20_0.1), (905, (o + 107), i_o107_lost)]) hx hb hts hown hG hR hS gPi_X1_469_0 sh_o.1 0 rfl rfl rfl dX1_tries_66 (fun H locs hR hS => ?_)
        refine lv_aload_n hx hb dX1_tries_69 rfl (lv_at hl 0 rfl) ?_
        refine g_getr (b := (o + 112)) hx hb hts hown hG hR gFx_X1_183_0 sh_o.1 ((congrFun (ov_no rfl) _).trans ((sh_o.2 17 _ rfl).2)) dX1_tries_70 ?_
        refine lv_iconst (v := 0) hx hb dX1_tries_73 li_0 ?_
        refine lv_aload_n hx hb dX1_tries_74 rfl (lv_at hl 0 rfl) ?_
        refine g_getr (b := (o + 113)) hx hb hts hown hG hR gFx_X1_186_0 sh_o.1 ((congrFun (ov_no rfl) _).trans ((sh_o.2 18 _ rfl).2)) dX1_tries_75 ?_
        refine lv_iconst (v := 0) hx hb dX1_tries_78 li_0 ?_
        refine lv_iload_n hx hb dX1_tries_79 rfl (lv_at hl 1 rfl) ?_
        obtain ⟨c22, hf⟩ := gd_some hf
        obtain ⟨u23, eu23, hf⟩ := lt_some hf
        refine n_copy (la' := [((o + 86), x20_0.2.1), ((o + 87), x20_0.2.2.1), ((o + 88), x20_0.2.2.2.1), ((o + 89), x20_0.2.2.2.2), ((o + 103), a_o102_fuel), ((o + 104), a_o102_wet), ((o + 106), a_o102_burns), ((o + 108), a_o107_fuel), ((o + 109), a_o107_wet), ((o + 110), a_o107_heat), ((o + 111), a_o107_burns), ((o + 112), a_aims), ((o + 113), u23)]) (t := 0) hx hb (hml.trans hl.1.symm) hown (hts _ q1210) (hts _ q1142) (hts _ q1141) (hts _ q126) hG hR hS k_a_aims k_a_bestAims (by decide) rfl rfl c22 11 12 hN_A rfl rfl (fun _ _ => rfl) eu23 rfl (Nat.le_of_ble_eq_true rfl) (Nat.le_of_ble_eq_true rfl) dX1_tries_80 (fun H locs hR hS => ?_)
        obtain rfl := some_i hf
        exact hend _ _ _ _ dX1_tries_83 hR hS
      · have hf := ite_f c21 hf
        obtain rfl := some_i hf
        exact hend _ _ _ _ dX1_tries_57 hR hS
    refine whl_walk (P := fun (s20 : Int32 × Int32 × (Nat → Int32) × (Nat → Int32) × (Nat → Int32) × (Nat → Int32)) => ∀ (H : Heap) (locs : List Loc) (ls : Array Slot), RS G K (ov I [(44, o, i_leastLost), (905, (o + 85), s20.2.1), (905, (o + 107), i_o107_lost)]) J (ov X [(904, (o + 85), (some y)), (904, (o + 107), x0_o107_yard)]) (ova A [((o + 86), s20.2.2.1), ((o + 87), s20.2.2.2.1), ((o + 88), s20.2.2.2.2.1), ((o + 89), s20.2.2.2.2.2), ((o + 103), a_o102_fuel), ((o + 104), a_o102_wet), ((o + 106), a_o102_burns), ((o + 108), a_o107_fuel), ((o + 109), a_o107_wet), ((o + 110), a_o107_heat), ((o + 111), a_o107_burns), ((o + 112), a_aims), ((o + 113), a_bestAims)]) B Q H → va_S (gA G) s.heap H locs → lv_has ls 6 [(0, .ref o), (1, .int (2 : Int32)), (4, .int s20.1)] → W p l e ({ frames := 7, cells := 0, slots := 0, locals := 165 } : Room) s m args below meth c H locs 0 0 Z (F0 m 21 ls [])) (r := rl20) ?_ FU _ hw20 _ _ _ hR hS (lv_sub hl [1, 2, 0] rfl)
    clear hR hS hl hf
    intro s20 o20 hf hk20 H locs ls hR hS hl
    obtain ⟨w20_4, w20_i_o85_lost, w20_a_o85_fuel, w20_a_o85_wet, w20_a_o85_heat, w20_a_o85_burns⟩ := s20
    have hf : f1_tries_2_s20 i_y_columns i_y_rows i_y_wind w20_4 w20_i_o85_lost w20_a_o85_fuel w20_a_o85_wet w20_a_o85_heat w20_a_o85_burns = some o20 := hf
    have hR : RS G K (ov I [(44, o, i_leastLost), (905, (o + 85), w20_i_o85_lost), (905, (o + 107), i_o107_lost)]) J (ov X [(904, (o + 85), (some y)), (904, (o + 107), x0_o107_yard)]) (ova A [((o + 86), w20_a_o85_fuel), ((o + 87), w20_a_o85_wet), ((o + 88), w20_a_o85_heat), ((o + 89), w20_a_o85_burns), ((o + 103), a_o102_fuel), ((o + 104), a_o102_wet), ((o + 106), a_o102_burns), ((o + 108), a_o107_fuel), ((o + 109), a_o107_wet), ((o + 110), a_o107_heat), ((o + 111), a_o107_burns), ((o + 112), a_aims), ((o + 113), a_bestAims)]) B Q H := hR
    have hl : lv_has ls 6 [(0, .ref o), (1, .int (2 : Int32)), (4, .int w20_4)] := hl
    unfold f1_tries_2_s20 at hf
    refine lv_iload hx hb dX1_tries_21 (lv_at hl 2 rfl) ?_
    refine lv_bipush (v := 20) hx hb dX1_tries_23 lb_20 ?_
    refine lv_icmp_ge (tgt := 43) hx hb dX1_tries_25 (by decide) (fun c24 => ?_) (fun c24 => ?_)
    · have hf := ite_t c24 hf
      obtain rfl := some_i hf
      replace hk20 : _ = rl20 := hk20
      subst hk20
      exact hx20_0 (w20_i_o85_lost, w20_a_o85_fuel, w20_a_o85_wet, w20_a_o85_heat, w20_a_o85_burns) hfo20 _ _ _ hR hS (lv_sub hl [0, 1] rfl)
    · have hf := ite_f c24 hf
      refine lv_aload_n hx hb dX1_tries_28 rfl (lv_at hl 0 rfl) ?_
      refine g_getr (b := (o + 85)) hx hb hts hown hG hR gFx_X1_173_0 sh_o.1 ((congrFun (ov_no rfl) _).trans x_o_tried) dX1_tries_29 ?_
      refine lv_iconst (v := -1) hx hb dX1_tries_32 li_m1 ?_
      refine lv_iconst (v := 0) hx hb dX1_tries_33 li_0 ?_
      obtain ⟨rr25, hrr25, hf⟩ := bind_s hf
      refine g0_cVv (rm := (4, 91)) (As := [.int (-1 : Int32), .int (0 : Int32)]) (rest := []) ⟨hx, hb, hml, hown, hts⟩ hG hR hS (m12_minute l G K (ov I [(44, o, i_leastLost), (905, (o + 85), w20_i_o85_lost), (905, (o + 107), i_o107_lost)]) J (ov X [(904, (o + 85), (some y)), (904, (o + 107), x0_o107_yard)]) (ova A [((o + 86), w20_a_o85_fuel), ((o + 87), w20_a_o85_wet), ((o + 88), w20_a_o85_heat), ((o + 89), w20_a_o85_burns), ((o + 103), a_o102_fuel), ((o + 104), a_o102_wet), ((o + 106), a_o102_burns), ((o + 108), a_o107_fuel), ((o + 109), a_o107_wet), ((o + 110), a_o107_heat), ((o + 111), a_o107_burns), ((o + 112), a_aims), ((o + 113), a_bestAims)]) B Q (o + 85) y (Sh.ov rfl sh_o85) (Sh.ov rfl sh_y) (ovp_get 0 hK_X rfl) (-1 : Int32) (0 : Int32) i_y_columns i_y_rows i_y_wind w20_i_o85_lost w20_a_o85_fuel w20_a_o85_wet w20_a_o85_heat w20_a_o85_burns ((congrFun (ov_no rfl) _).trans e_i_y_columns) ((congrFun (ov_no rfl) _).trans e_i_y_rows) ((congrFun (ov_no rfl) _).trans e_i_y_wind) (ovp_get 1 hK_I rfl) (ova_get 0 hN_A rfl) (ova_get 1 hN_A rfl) (ova_get 2 hN_A rfl) (ova_get 3 hN_A rfl) rr25 hrr25) (cwV 2 hts gi_X1_457 rfl rfl rfl hd_X12_minute ⟨Nat.le_of_ble_eq_true rfl, Nat.le_of_ble_eq_true rfl⟩) sh_o85.1 rfl rfl hl.1 (Nat.le_of_ble_eq_true rfl) dX1_tries_34 ⟨Nat.le_refl _, Nat.le_refl _⟩ rfl (fun H locs hR hS => ?_)
      have hR : RS G K (ov I [(44, o, i_leastLost), (905, (o + 85), rr25.1), (905, (o + 107), i_o107_lost)]) J (ov X [(904, (o + 85), (some y)), (904, (o + 107), x0_o107_yard)]) (ova A [((o + 86), rr25.2.1), ((o + 87), rr25.2.2.1), ((o + 88), rr25.2.2.2.1), ((o + 89), rr25.2.2.2.2), ((o + 103), a_o102_fuel), ((o + 104), a_o102_wet), ((o + 106), a_o102_burns), ((o + 108), a_o107_fuel), ((o + 109), a_o107_wet), ((o + 110), a_o107_heat), ((o + 111), a_o107_burns), ((o + 112), a_aims), ((o + 113), a_bestAims)]) B Q H := hR.to (ovp_merge (l := [(44, o, i_leastLost), (905, (o + 85), w20_i_o85_lost), (905, (o + 107), i_o107_lost)]) hK_I [1] [(905, (o + 85), rr25.1)] rfl rfl) rfl rfl (ova_merge (l := [((o + 86), w20_a_o85_fuel), ((o + 87), w20_a_o85_wet), ((o + 88), w20_a_o85_heat), ((o + 89), w20_a_o85_burns), ((o + 103), a_o102_fuel), ((o + 104), a_o102_wet), ((o + 106), a_o102_burns), ((o + 108), a_o107_fuel), ((o + 109), a_o107_wet), ((o + 110), a_o107_heat), ((o + 111), a_o107_burns), ((o + 112), a_aims), ((o + 113), a_bestAims)]) hN_A [0, 1, 2, 3] [((o + 86), rr25.2.1), ((o + 87), rr25.2.2.1), ((o + 88), rr25.2.2.2.1), ((o + 89), rr25.2.2.2.2)] rfl rfl) rfl rfl
      obtain ⟨v26, ev26, hf⟩ := lt_some hf
      refine lv_iinc (k := 2) (v := v26) (lv' := [(4, .int v26), (0, .ref o), (1, .int (2 : Int32))]) hx hb dX1_tries_37 hl rfl (by rw [ev26]; rfl) (by decide) rfl (fun ls hl => ?_)
      refine lv_goto (tgt := 21) hx hb dX1_tries_40 (by decide) ?_
      obtain rfl := some_i hf
      exact hk20 _ _ _ hR hS (lv_sub hl [1, 2, 0] rfl)
