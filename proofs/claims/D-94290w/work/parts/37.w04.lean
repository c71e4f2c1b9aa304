/-! makers: the walks (printed by tools) 4 -/
set_option maxRecDepth 100000
noncomputable def w1_nights_e23_0 (x23_0 : gK × gI × gJ × gX × gI × gJ × gX × Nat) : Option (gK × gI × gJ × gX × gI × gJ × gX × Nat) :=
  some x23_0

noncomputable def w1_nights_j240 (o : Nat) (K : gK) (w23_5 : Int32) (x25_0 : (Option Nat) × Int32 × Int32 × gI × gJ × gX × gI × gJ × gX) (j227_I : gI) (j227_J : gJ) (j227_X : gX) (j227_B : gJ) (j227_Q : gX) (Am30 : gI) (j240_s0 : Int32) : Option (((Option Nat) × Int32 × Int32 × Int32 × Int32 × gI × gJ × gX × gI × gJ × gX) ⊕ (gK × gI × gJ × gX × gI × gJ × gX × Nat)) :=
  lt (j227_X 45 o) fun x31 =>
  (x31).bind fun a32 =>
  (j227_X 904 a32).bind fun a34 =>
  gdp (Sh K j227_X a32 9 rows9) <|
  gdp (Sh K j227_X a34 3 rows3) <|
  (f12_aimed x25_0.2.1 (j227_I 304 a34) (j227_I 305 a34) (j227_I 314 a34) (Am30 (a32 + 1)) (Am30 (a32 + 3)) (Am30 (a32 + 4))).bind fun r33 =>
  lt ((ova Am30 [((a32 + 1), (Am30 (a32 + 1))), ((a32 + 3), r33.2), ((a32 + 4), (Am30 (a32 + 4)))])) fun Am37 =>
  lt (j227_X 46 o) fun x38 =>
  (x38).bind fun a39 =>
  (alen K a39 0).bind fun n40 =>
  gdp (inb w23_5 n40) <|
  lt (Am37 a39 w23_5.toNatClampNeg) fun v42 =>
  (j227_X 904 a32).bind fun a44 =>
  gdp (Sh K j227_X a44 3 rows3) <|
  (f12_minute r33.1 v42 (j227_I 304 a44) (j227_I 305 a44) (j227_I 314 a44) (j227_I 905 a32) (Am37 (a32 + 1)) (Am37 (a32 + 2)) (Am37 (a32 + 3)) (Am37 (a32 + 4))).bind fun r43 =>
  lt ((ov j227_I [(905, a32, r43.1)])) fun Im46 =>
  lt ((ova Am37 [((a32 + 1), r43.2.1), ((a32 + 2), r43.2.2.1), ((a32 + 3), r43.2.2.2.1), ((a32 + 4), r43.2.2.2.2)])) fun Am47 =>
  lt (j227_X 47 o) fun x48 =>
  gdp (K a32 = some (.inl 9)) <|
  lt (Im46 905 a32) fun v50 =>
  (x48).bind fun a51 =>
  (alen K a51 0).bind fun n52 =>
  gdp (inb w23_5 n52) <|
  lt (a_up Am47 a51 (upd (Am47 a51) w23_5.toNatClampNeg v50)) fun Am54 =>
  lt (j227_X 48 o) fun x55 =>
  (f12_burning (Am54 (a32 + 4))).bind fun r56 =>
  (x55).bind fun a57 =>
  (alen K a57 0).bind fun n58 =>
  gdp (inb w23_5 n58) <|
  lt (a_up Am54 a57 (upd (Am54 a57) w23_5.toNatClampNeg r56)) fun Am60 =>
  lt (j227_X 49 o) fun x61 =>
  (x61).bind fun a62 =>
  (alen K a62 0).bind fun n63 =>
  gdp (inb w23_5 n63) <|
  lt (a_up Am60 a62 (upd (Am60 a62) w23_5.toNatClampNeg j240_s0)) fun Am65 =>
  lt (w23_5 + (1 : Int32)) fun v66 =>
  some (.inl (x25_0.1, j240_s0, x25_0.2.1, x25_0.2.2.1, v66, Im46, j227_J, j227_X, Am65, j227_B, j227_Q))

noncomputable def w1_nights_j227 (o : Nat) (K : gK) (w23_2 : Int32) (w23_5 : Int32) (x25_0 : (Option Nat) × Int32 × Int32 × gI × gJ × gX × gI × gJ × gX) (x26 : Option Nat) (j227_s0 : Int32) (j227_I : gI) (j227_J : gJ) (j227_X : gX) (j227_A : gI) (j227_B : gJ) (j227_Q : gX) : Option (((Option Nat) × Int32 × Int32 × Int32 × Int32 × gI × gJ × gX × gI × gJ × gX) ⊕ (gK × gI × gJ × gX × gI × gJ × gX × Nat)) :=
  (x26).bind fun a27 =>
  (alen K a27 0).bind fun n28 =>
  gdp (inb w23_5 n28) <|
  lt (a_up j227_A a27 (upd (j227_A a27) w23_5.toNatClampNeg j227_s0)) fun Am30 =>
  if x25_0.1 = none then
    w1_nights_j240 o K w23_5 x25_0 j227_I j227_J j227_X j227_B j227_Q Am30 w23_2
  else
    (x25_0.1).bind fun a68 =>
    if K a68 = some (.inl 7) then
      lt (j227_I 703 a68) fun v70 =>
      w1_nights_j240 o K w23_5 x25_0 j227_I j227_J j227_X j227_B j227_Q Am30 v70
    else
    gdp (K a68 = some (.inl 8)) <|
    lt (j227_I 803 a68) fun v72 =>
    w1_nights_j240 o K w23_5 x25_0 j227_I j227_J j227_X j227_B j227_Q Am30 v72

noncomputable def w1_nights_e25_0 (o : Nat) (K : gK) (w23_2 : Int32) (w23_5 : Int32) (x25_0 : (Option Nat) × Int32 × Int32 × gI × gJ × gX × gI × gJ × gX) : Option (((Option Nat) × Int32 × Int32 × Int32 × Int32 × gI × gJ × gX × gI × gJ × gX) ⊕ (gK × gI × gJ × gX × gI × gJ × gX × Nat)) :=
  lt (x25_0.2.2.2.2.2.1 46 o) fun x26 =>
  if x25_0.1 = none then
    w1_nights_j227 o K w23_2 w23_5 x25_0 x26 (0 : Int32) x25_0.2.2.2.1 x25_0.2.2.2.2.1 x25_0.2.2.2.2.2.1 x25_0.2.2.2.2.2.2.1 x25_0.2.2.2.2.2.2.2.1 x25_0.2.2.2.2.2.2.2.2
  else
    (x25_0.1).bind fun a74 =>
    if K a74 = some (.inl 7) then
      (x25_0.2.2.2.2.2.1 701 a74).bind fun a77 =>
      gdp (Sh K x25_0.2.2.2.2.2.1 a74 7 rows7) <|
      gdp (Sh K x25_0.2.2.2.2.2.1 a77 3 rows3) <|
      gdp (∀ j, j < 12 → K (a74 + 9 + j) = some (.inr (0, 30)) ∧ x25_0.2.2.2.2.2.2.2.2 (a74 + 8) j = some (a74 + 9 + j)) <|
      gdp (∀ (j m : Nat), (x25_0.2.2.2.2.2.2.2.2 (a77 + 1)) j = some m → K m = some (.inl 12)) <|
      (f9_goesR (60 : Int32) (x25_0.2.2.2.1 306 a77) (x25_0.2.2.2.1 308 a77) (x25_0.2.2.2.1 309 a77) (x25_0.2.2.2.1 311 a77) (x25_0.2.2.2.1 312 a77) (x25_0.2.2.2.1 313 a77) (x25_0.2.2.2.1 702 a74) (x25_0.2.2.2.1 703 a74) (x25_0.2.2.2.1 704 a74) (x25_0.2.2.2.1 705 a74) (x25_0.2.2.2.1 714 a74) (x25_0.2.2.2.1 715 a74) (x25_0.2.2.2.1 716 a74) (x25_0.2.2.2.1 717 a74) (x25_0.2.2.2.1 718 a74) (x25_0.2.2.2.2.2.2.1 (a74 + 1)) (x25_0.2.2.2.2.2.2.1 (a74 + 2)) (x25_0.2.2.2.2.2.2.1 (a74 + 3)) (x25_0.2.2.2.2.2.2.1 (a74 + 4)) (x25_0.2.2.2.2.2.2.1 (a74 + 5)) (x25_0.2.2.2.2.2.2.1 (a74 + 6)) (x25_0.2.2.2.2.2.2.1 (a74 + 7)) (x25_0.2.2.2.2.2.2.1 (a74 + 21)) (x25_0.2.2.2.2.2.2.2.2 (a77 + 1)) (x25_0.2.2.2.1 1201) (x25_0.2.2.2.1 1203) (fun j => x25_0.2.2.2.2.2.2.1 ((a74 + 9) + j))).bind fun r76 =>
      lt ((ov x25_0.2.2.2.1 [(703, a74, r76.2.1), (704, a74, r76.2.2.1), (705, a74, r76.2.2.2.1), (714, a74, r76.2.2.2.2.1), (715, a74, r76.2.2.2.2.2.1), (716, a74, r76.2.2.2.2.2.2.1), (717, a74, r76.2.2.2.2.2.2.2.1), (718, a74, r76.2.2.2.2.2.2.2.2.1)])) fun Im82 =>
      lt ((ova (ovg x25_0.2.2.2.2.2.2.1 (a74 + 9) 12 r76.2.2.2.2.2.2.2.2.2.2.2.2.2.2.2.2) [((a74 + 1), (x25_0.2.2.2.2.2.2.1 (a74 + 1))), ((a74 + 2), r76.2.2.2.2.2.2.2.2.2.1), ((a74 + 3), r76.2.2.2.2.2.2.2.2.2.2.1), ((a74 + 4), r76.2.2.2.2.2.2.2.2.2.2.2.1), ((a74 + 5), r76.2.2.2.2.2.2.2.2.2.2.2.2.1), ((a74 + 6), r76.2.2.2.2.2.2.2.2.2.2.2.2.2.1), ((a74 + 7), r76.2.2.2.2.2.2.2.2.2.2.2.2.2.2.1), ((a74 + 21), r76.2.2.2.2.2.2.2.2.2.2.2.2.2.2.2.1)])) fun Am83 =>
      w1_nights_j227 o K w23_2 w23_5 x25_0 x26 r76.1 Im82 x25_0.2.2.2.2.1 x25_0.2.2.2.2.2.1 Am83 x25_0.2.2.2.2.2.2.2.1 x25_0.2.2.2.2.2.2.2.2
    else
    gdp (K a74 = some (.inl 8)) <|
    (x25_0.2.2.2.2.2.1 801 a74).bind fun a86 =>
    gdp (Sh K x25_0.2.2.2.2.2.1 a74 8 rows8) <|
    gdp (Sh K x25_0.2.2.2.2.2.1 a86 3 rows3) <|
    gdp (∀ (j m : Nat), (x25_0.2.2.2.2.2.2.2.2 (a86 + 1)) j = some m → K m = some (.inl 12)) <|
    (f9_goesN (60 : Int32) (x25_0.2.2.2.1 306 a86) (x25_0.2.2.2.1 308 a86) (x25_0.2.2.2.1 309 a86) (x25_0.2.2.2.1 802 a74) (x25_0.2.2.2.1 803 a74) (x25_0.2.2.2.1 804 a74) (x25_0.2.2.2.1 805 a74) (x25_0.2.2.2.1 809 a74) (x25_0.2.2.2.2.2.2.1 (a74 + 1)) (x25_0.2.2.2.2.2.2.1 (a74 + 2)) (x25_0.2.2.2.2.2.2.1 (a74 + 3)) (x25_0.2.2.2.2.2.2.1 (a74 + 4)) (x25_0.2.2.2.2.2.2.2.2 (a86 + 1)) (x25_0.2.2.2.1 1202)).bind fun r85 =>
    lt ((ov x25_0.2.2.2.1 [(803, a74, r85.2.1), (804, a74, r85.2.2.1), (805, a74, r85.2.2.2.1), (809, a74, r85.2.2.2.2.1)])) fun Im90 =>
    lt ((ova x25_0.2.2.2.2.2.2.1 [((a74 + 1), (x25_0.2.2.2.2.2.2.1 (a74 + 1))), ((a74 + 2), r85.2.2.2.2.2.1), ((a74 + 3), r85.2.2.2.2.2.2.1), ((a74 + 4), r85.2.2.2.2.2.2.2)])) fun Am91 =>
    w1_nights_j227 o K w23_2 w23_5 x25_0 x26 r85.1 Im90 x25_0.2.2.2.2.1 x25_0.2.2.2.2.2.1 Am91 x25_0.2.2.2.2.2.2.2.1 x25_0.2.2.2.2.2.2.2.2

noncomputable def w1_nights_j201 (w25_4 : Int32) (j108_3 : Int32) (j201_1 : Option Nat) (j201_I : gI) (j201_J : gJ) (j201_X : gX) (j201_A : gI) (j201_B : gJ) (j201_Q : gX) : Option (((Option Nat) × Int32 × Int32 × gI × gJ × gX × gI × gJ × gX) ⊕ ((Option Nat) × Int32 × Int32 × gI × gJ × gX × gI × gJ × gX)) :=
  lt (w25_4 + (1 : Int32)) fun v112 =>
  some (.inl (j201_1, j108_3, v112, j201_I, j201_J, j201_X, j201_A, j201_B, j201_Q))

noncomputable def w1_nights_j174 (o : Nat) (K : gK) (w23_2 : Int32) (w25_4 : Int32) (a105 : Nat) (j108_3 : Int32) (j130_I : gI) (j130_J : gJ) (j130_X : gX) (j130_A : gI) (j130_B : gJ) (j130_Q : gX) (j174_s0 : Option Nat) : Option (((Option Nat) × Int32 × Int32 × gI × gJ × gX × gI × gJ × gX) ⊕ ((Option Nat) × Int32 × Int32 × gI × gJ × gX × gI × gJ × gX)) :=
  if j174_s0 = none then
    w1_nights_j201 w25_4 j108_3 j174_s0 j130_I j130_J j130_X j130_A j130_B j130_Q
  else
    lt (j130_X 9 o) fun x115 =>
    (x115).bind fun a116 =>
    gdp (K a116 = some (.inl 2)) <|
    lt (j130_X 200 a116) fun x118 =>
    lt (j130_X 1304 a105) fun x119 =>
    lt (j130_I 1303 a105) fun v120 =>
    (j174_s0).bind fun a121 =>
    if K a121 = some (.inl 7) then
      (x118).bind fun a123 =>
      (x119).bind fun a124 =>
      (alen K a124 0).bind fun n126 =>
      gdp (Sh K j130_X a121 7 rows7) <|
      gdp (Sh K j130_X a123 3 rows3) <|
      gdp (a121 + 21 < a124 ∨ a124 + 0 < a121) <|
      (f10_begin v120 w23_2 n126 (j130_I 307 a123) (j130_I 702 a121) (j130_I 703 a121) (j130_I 704 a121) (j130_I 705 a121) (j130_I 714 a121) (j130_I 715 a121) (j130_I 716 a121) (j130_I 717 a121) (j130_I 718 a121) (j130_A (a121 + 1)) (j130_A (a121 + 2)) (j130_A (a121 + 3)) (j130_A (a121 + 4)) (j130_A (a121 + 5)) (j130_A (a121 + 6)) (j130_A (a121 + 7)) (j130_A a124)).bind fun r125 =>
      lt ((ov j130_I [(702, a121, r125.1), (703, a121, r125.2.1), (704, a121, r125.2.2.1), (705, a121, r125.2.2.2.1), (714, a121, r125.2.2.2.2.1), (715, a121, r125.2.2.2.2.2.1), (716, a121, r125.2.2.2.2.2.2.1), (717, a121, r125.2.2.2.2.2.2.2.1), (718, a121, r125.2.2.2.2.2.2.2.2.1)])) fun Im130 =>
      lt ((ov j130_X [(701, a121, (some a123))])) fun Xm131 =>
      lt ((ova j130_A [((a121 + 1), r125.2.2.2.2.2.2.2.2.2.1), ((a121 + 2), r125.2.2.2.2.2.2.2.2.2.2.1), ((a121 + 3), r125.2.2.2.2.2.2.2.2.2.2.2.1), ((a121 + 4), r125.2.2.2.2.2.2.2.2.2.2.2.2.1), ((a121 + 5), r125.2.2.2.2.2.2.2.2.2.2.2.2.2.1), ((a121 + 6), r125.2.2.2.2.2.2.2.2.2.2.2.2.2.2.1), ((a121 + 7), r125.2.2.2.2.2.2.2.2.2.2.2.2.2.2.2), (a124, (j130_A a124))])) fun Am132 =>
      w1_nights_j201 w25_4 j108_3 j174_s0 Im130 j130_J Xm131 Am132 j130_B j130_Q
    else
    gdp (K a121 = some (.inl 8)) <|
    (x118).bind fun a134 =>
    (x119).bind fun a135 =>
    (alen K a135 0).bind fun n137 =>
    gdp (Sh K j130_X a121 8 rows8) <|
    gdp (Sh K j130_X a134 3 rows3) <|
    gdp (a121 + 4 < a135 ∨ a135 + 0 < a121) <|
    (f11_begin v120 w23_2 n137 (j130_I 307 a134) (j130_I 802 a121) (j130_I 803 a121) (j130_I 804 a121) (j130_I 805 a121) (j130_I 809 a121) (j130_A (a121 + 1)) (j130_A (a121 + 2)) (j130_A a135)).bind fun r136 =>
    lt ((ov j130_I [(802, a121, r136.1), (803, a121, r136.2.1), (804, a121, r136.2.2.1), (805, a121, r136.2.2.2.1), (809, a121, r136.2.2.2.2.1)])) fun Im141 =>
    lt ((ov j130_X [(801, a121, (some a134))])) fun Xm142 =>
    lt ((ova j130_A [((a121 + 1), r136.2.2.2.2.2.1), ((a121 + 2), r136.2.2.2.2.2.2), (a135, (j130_A a135))])) fun Am143 =>
    w1_nights_j201 w25_4 j108_3 j174_s0 Im141 j130_J Xm142 Am143 j130_B j130_Q

noncomputable def w1_nights_j130 (o : Nat) (K : gK) (w23_2 : Int32) (w25_1 : Option Nat) (w25_4 : Int32) (a105 : Nat) (j108_3 : Int32) (j130_I : gI) (j130_J : gJ) (j130_X : gX) (j130_A : gI) (j130_B : gJ) (j130_Q : gX) : Option (((Option Nat) × Int32 × Int32 × gI × gJ × gX × gI × gJ × gX) ⊕ ((Option Nat) × Int32 × Int32 × gI × gJ × gX × gI × gJ × gX)) :=
  lt (j130_I 1301 a105) fun v111 =>
  if v111 ≤ (2 : Int32) then
    if v111 = 0 then
      lt (j130_X 14 o) fun x147 =>
      w1_nights_j174 o K w23_2 w25_4 a105 j108_3 j130_I j130_J j130_X j130_A j130_B j130_Q x147
    else
      if v111 = (1 : Int32) then
        lt (j130_X 16 o) fun x146 =>
        w1_nights_j174 o K w23_2 w25_4 a105 j108_3 j130_I j130_J j130_X j130_A j130_B j130_Q x146
      else
        w1_nights_j174 o K w23_2 w25_4 a105 j108_3 j130_I j130_J j130_X j130_A j130_B j130_Q none
  else
    w1_nights_j201 w25_4 j108_3 w25_1 j130_I j130_J j130_X j130_A j130_B j130_Q

noncomputable def w1_nights_j108 (o : Nat) (K : gK) (w23_2 : Int32) (w25_1 : Option Nat) (w25_4 : Int32) (w25_I : gI) (w25_J : gJ) (w25_X : gX) (w25_A : gI) (w25_B : gJ) (w25_Q : gX) (a105 : Nat) (v110 : Int32) (j108_3 : Int32) : Option (((Option Nat) × Int32 × Int32 × gI × gJ × gX × gI × gJ × gX) ⊕ ((Option Nat) × Int32 × Int32 × gI × gJ × gX × gI × gJ × gX)) :=
  if v110 = (4 : Int32) then
    lt (w25_X 45 o) fun x149 =>
    lt (w25_I 1302 a105) fun v150 =>
    (x149).bind fun a151 =>
    (w25_X 904 a151).bind fun a153 =>
    gdp (Sh K w25_X a151 9 rows9) <|
    gdp (Sh K w25_X a153 3 rows3) <|
    (f12_give v150 (w25_I 305 a153) (w25_A (a151 + 1)) (w25_A (a151 + 4))).bind fun r152 =>
    lt ((ova w25_A [((a151 + 1), r152.2.1), ((a151 + 4), r152.2.2)])) fun Am156 =>
    w1_nights_j130 o K w23_2 w25_1 w25_4 a105 j108_3 w25_I w25_J w25_X Am156 w25_B w25_Q
  else
    w1_nights_j130 o K w23_2 w25_1 w25_4 a105 j108_3 w25_I w25_J w25_X w25_A w25_B w25_Q

noncomputable def w1_nights_s25 (o : Nat) (K : gK) (w23_2 : Int32) (w23_5 : Int32) (w25_1 : Option Nat) (w25_3 : Int32) (w25_4 : Int32) (w25_I : gI) (w25_J : gJ) (w25_X : gX) (w25_A : gI) (w25_B : gJ) (w25_Q : gX) : Option (((Option Nat) × Int32 × Int32 × gI × gJ × gX × gI × gJ × gX) ⊕ ((Option Nat) × Int32 × Int32 × gI × gJ × gX × gI × gJ × gX)) :=
  lt (w25_X 9 o) fun x92 =>
  (x92).bind fun a93 =>
  gdp (K a93 = some (.inl 2)) <|
  lt (w25_X 201 a93) fun x95 =>
  (x95).bind fun a96 =>
  gdp (K a96 = some (.inl 4)) <|
  lt (w25_I 401 a96) fun v98 =>
  if v98 ≤ w25_4 then
    some (.inr (w25_1, w25_3, w25_4, w25_I, w25_J, w25_X, w25_A, w25_B, w25_Q))
  else
    lt (w25_X 400 a96) fun x100 =>
    (x100).bind fun a101 =>
    (alen K a101 5).bind fun n102 =>
    gdp (inb w25_4 n102) <|
    lt (w25_Q a101 w25_4.toNatClampNeg) fun x104 =>
    (x104).bind fun a105 =>
    gdp (K a105 = some (.inl 13)) <|
    lt (w25_I 1300 a105) fun v107 =>
    if v107 = w23_5 then
      gdp (inb w25_4 n102) <|
      lt (w25_I 1301 a105) fun v110 =>
      if v110 = (3 : Int32) then
        lt (w25_I 1302 a105) fun v158 =>
        w1_nights_j108 o K w23_2 w25_1 w25_4 w25_I w25_J w25_X w25_A w25_B w25_Q a105 v110 v158
      else
        w1_nights_j108 o K w23_2 w25_1 w25_4 w25_I w25_J w25_X w25_A w25_B w25_Q a105 v110 w25_3
    else
      some (.inr (w25_1, w25_3, w25_4, w25_I, w25_J, w25_X, w25_A, w25_B, w25_Q))

noncomputable def w1_nights_s23 (o : Nat) (K : gK) (n : Nat) (w23_1 : Option Nat) (w23_2 : Int32) (w23_3 : Int32) (w23_4 : Int32) (w23_5 : Int32) (w23_I : gI) (w23_J : gJ) (w23_X : gX) (w23_A : gI) (w23_B : gJ) (w23_Q : gX) : Option (((Option Nat) × Int32 × Int32 × Int32 × Int32 × gI × gJ × gX × gI × gJ × gX) ⊕ (gK × gI × gJ × gX × gI × gJ × gX × Nat)) :=
  if (60 : Int32) ≤ w23_5 then
    some (.inr (K, w23_I, w23_J, w23_X, w23_A, w23_B, w23_Q, n))
  else
    (whl (fun (s25 : (Option Nat) × Int32 × Int32 × gI × gJ × gX × gI × gJ × gX) => w1_nights_s25 o K w23_2 w23_5 s25.1 s25.2.1 s25.2.2.1 s25.2.2.2.1 s25.2.2.2.2.1 s25.2.2.2.2.2.1 s25.2.2.2.2.2.2.1 s25.2.2.2.2.2.2.2.1 s25.2.2.2.2.2.2.2.2) FU (w23_1, w23_3, w23_4, w23_I, w23_J, w23_X, w23_A, w23_B, w23_Q)).bind fun rl25 =>
    w1_nights_e25_0 o K w23_2 w23_5 rl25

noncomputable def w1_nights (zz : Nat) (adS : Nat → Nat) (o : Nat) (K : gK) (I : gI) (J : gJ) (X : gX) (A : gI) (B : gJ) (Q : gX) (n : Nat) : Option (gK × gI × gJ × gX × gI × gJ × gX × Nat) :=
  gdp (K o = some (.inl 0)) <|
  lt (X 45 o) fun x2 =>
  lt (X 9 o) fun x3 =>
  (x3).bind fun a4 =>
  gdp (K a4 = some (.inl 2)) <|
  lt (X 200 a4) fun x6 =>
  (x2).bind fun a7 =>
  (x6).bind fun a8 =>
  gdp (Sh K X a7 9 rows9) <|
  gdp (Sh K X a8 3 rows3) <|
  gdp (nda [(a7 + 1), (a7 + 2), (a7 + 4), (a8 + 2), (a8 + 3)]) <|
  (f12_begin (I 905 a7) (A (a7 + 1)) (A (a7 + 2)) (A (a7 + 4)) (A (a8 + 2)) (A (a8 + 3))).bind fun r9 =>
  lt ((ov I [(905, a7, r9.1)])) fun Im13 =>
  lt ((ov X [(904, a7, (some a8))])) fun Xm14 =>
  lt ((ova A [((a7 + 1), r9.2.1), ((a7 + 2), r9.2.2.1), ((a7 + 4), r9.2.2.2), ((a8 + 2), (A (a8 + 2))), ((a8 + 3), (A (a8 + 3)))])) fun Am15 =>
  lt (Xm14 9 o) fun x16 =>
  (x16).bind fun a17 =>
  gdp (K a17 = some (.inl 2)) <|
  lt (Xm14 200 a17) fun x19 =>
  (x19).bind fun a20 =>
  gdp (K a20 = some (.inl 3)) <|
  lt (Im13 310 a20) fun v22 =>
  (whl (fun (s23 : (Option Nat) × Int32 × Int32 × Int32 × Int32 × gI × gJ × gX × gI × gJ × gX) => w1_nights_s23 o K n s23.1 s23.2.1 s23.2.2.1 s23.2.2.2.1 s23.2.2.2.2.1 s23.2.2.2.2.2.1 s23.2.2.2.2.2.2.1 s23.2.2.2.2.2.2.2.1 s23.2.2.2.2.2.2.2.2.1 s23.2.2.2.2.2.2.2.2.2.1 s23.2.2.2.2.2.2.2.2.2.2) FU (none, v22, (1 : Int32), (0 : Int32), (0 : Int32), Im13, J, Xm14, Am15, B, Q)).bind fun rl23 =>
  w1_nights_e23_0 rl23
set_option maxHeartbeats 4000000 in
theorem m1_nights_w (l : Launch) (G : gG) (K : gK) (I : gI) (J : gJ) (X : gX) (A : gI) (B : gJ) (Q : gX) (n : Nat) (o : Nat) (out : gK × gI × gJ × gX × gI × gJ × gX × Nat) (hf : w1_nights G.2.2 (aK G) o K I J X A B Q n = some out) : GMetX l yX1_nights cX1_nights 7 none (6) (138) G [.ref o] K I J X A B Q (.inr none) out.1 out.2.1 out.2.2.1 out.2.2.2.1 out.2.2.2.2.1 out.2.2.2.2.2.1 out.2.2.2.2.2.2.1 0 0 := by
  refine GMetX.of (y := yX1_nights) rfl (Nat.le_of_ble_eq_true rfl) (la := [(0, .ref o)]) rfl ?_
  intro p e s m below meth c ls hx hb hr hml hlocks hts hown hname ht hG hR hW hl
  have hown : s.vm.findClass RX1 = some m.cls := hown
  have hS : va_S (gA G) s.heap s.heap [] := va_S.rf
  have hend : ∀ (pc : Nat) (H : Heap) (locs : List Loc) (ls : Array Slot), decode cX1_nights pc = .ok (.return_, 1) → RS G out.1 out.2.1 out.2.2.1 out.2.2.2.1 out.2.2.2.2.1 out.2.2.2.2.2.1 out.2.2.2.2.2.2.1 H → va_S (gA G) s.heap H locs → W p l e ({ frames := 6, cells := 0, slots := 0, locals := 138 } : Room) s m ([.ref o] : List Value).toArray below meth c H locs 0 0 (vx_MQ below (xQ G (.inr none) out.1 out.2.1 out.2.2.1 out.2.2.2.1 out.2.2.2.2.1 out.2.2.2.2.2.1 out.2.2.2.2.2.2.1) (xX G (.inr none) out.1 out.2.1 out.2.2.1 out.2.2.2.1 out.2.2.2.2.1 out.2.2.2.2.2.1 out.2.2.2.2.2.2.1) ([.ref o] : List Value).toArray s 0 0 (gA G)) (F0 m pc ls []) := fun pc H locs ls hd hR hS => x_vret hx hb hr hlocks hG hR hS rfl hd
  generalize vx_MQ below (xQ G (.inr none) out.1 out.2.1 out.2.2.1 out.2.2.2.1 out.2.2.2.2.1 out.2.2.2.2.2.1 out.2.2.2.2.2.2.1) (xX G (.inr none) out.1 out.2.1 out.2.2.1 out.2.2.2.1 out.2.2.2.2.1 out.2.2.2.2.2.1 out.2.2.2.2.2.2.1) ([.ref o] : List Value).toArray s 0 0 (gA G) = Z at hend ⊢
  generalize ([.ref o] : List Value).toArray = args at hts hend ⊢
  unfold w1_nights at hf
  refine lv_aload_n hx hb dX1_nights_0 rfl (lv_at hl 0 rfl) ?_
  obtain ⟨k1, hf⟩ := gdp_some hf
  obtain ⟨x2, ex2, hf⟩ := lt_some hf
  refine g_getx hx hb hts hown hG hR gFx_X1_189_0 k1 dX1_nights_1 ?_
  rw [← ex2]
  refine lv_aload_n hx hb dX1_nights_4 rfl (lv_at hl 0 rfl) ?_
  obtain ⟨x3, ex3, hf⟩ := lt_some hf
  refine g_getx hx hb hts hown hG hR gFx_X1_96_0 k1 dX1_nights_5 ?_
  rw [← ex3]
  obtain ⟨a4, ha4, hf⟩ := bind_s hf
  try rw [ha4]
  obtain ⟨k5, hf⟩ := gdp_some hf
  obtain ⟨x6, ex6, hf⟩ := lt_some hf
  refine g_getx hx hb hts hown hG hR gFx_X1_241_2 k5 dX1_nights_8 ?_
  rw [← ex6]
  obtain ⟨a7, ha7, hf⟩ := bind_s hf
  try rw [ha7]
  obtain ⟨a8, ha8, hf⟩ := bind_s hf
  try rw [ha8]
  obtain ⟨g10, hf⟩ := gdp_some hf
  obtain ⟨g11, hf⟩ := gdp_some hf
  obtain ⟨g12, hf⟩ := gdp_some hf
  obtain ⟨r9, hr9, hf⟩ := bind_s hf
  refine g0_cVv (rm := (0, 0)) (As := [.ref a8]) (rest := []) ⟨hx, hb, hml, hown, hts⟩ hG hR hS (m12_begin l G K I J X A B Q a7 a8 g10 g11 g12 (I 905 a7) (X 904 a7) (A (a7 + 1)) (A (a7 + 2)) (A (a7 + 4)) (A (a8 + 2)) (A (a8 + 3)) rfl rfl rfl rfl rfl rfl rfl r9 hr9) ⟨callB_of 1 hts (lw_meth q1323) rfl rfl rfl (hts _ q116) (hts _ q1320) (by decide +kernel) ⟨Nat.le_of_ble_eq_true rfl, Nat.le_of_ble_eq_true rfl⟩, hts _ q1321, hts _ q1322⟩ g10.1 rfl rfl hl.1 (Nat.le_of_ble_eq_true rfl) dX1_nights_11 ⟨Nat.zero_le _, Nat.zero_le _⟩ rfl (fun H locs hR hS => ?_)
  obtain ⟨Im13, eIm13, hf⟩ := lt_some hf
  obtain ⟨Xm14, eXm14, hf⟩ := lt_some hf
  obtain ⟨Am15, eAm15, hf⟩ := lt_some hf
  rw [← eIm13, ← eXm14, ← eAm15] at hR
  refine lv_null hx hb dX1_nights_14 ?_
  refine n_astore_n (x := none) (lv' := [(1, va_rf none), (0, .ref o)]) hx hb dX1_nights_15 rfl hl (by decide) (by first | rfl | simp [va_rf_c]) (fun ls hl => ?_)
  refine lv_aload_n hx hb dX1_nights_16 rfl (lv_at hl 1 rfl) ?_
  obtain ⟨x16, ex16, hf⟩ := lt_some hf
  refine g_getx hx hb hts hown hG hR gFx_X1_96_0 k1 dX1_nights_17 ?_
  rw [← ex16]
  obtain ⟨a17, ha17, hf⟩ := bind_s hf
  try rw [ha17]
  obtain ⟨k18, hf⟩ := gdp_some hf
  obtain ⟨x19, ex19, hf⟩ := lt_some hf
  refine g_getx hx hb hts hown hG hR gFx_X1_241_2 k18 dX1_nights_20 ?_
  rw [← ex19]
  obtain ⟨a20, ha20, hf⟩ := bind_s hf
  try rw [ha20]
  obtain ⟨k21, hf⟩ := gdp_some hf
  obtain ⟨v22, ev22, hf⟩ := lt_some hf
  refine n_geti (v := v22) hx hb hts hown hG hR gFi_X1_321_3 k21 ev22.symm dX1_nights_23 ?_
  refine lv_istore_n (lv' := [(2, .int v22), (1, va_rf none), (0, .ref o)]) hx hb dX1_nights_26 rfl hl (by decide) (by first | rfl | simp [va_rf_c]) (fun ls hl => ?_)
  refine lv_iconst (v := 1) hx hb dX1_nights_27 li_1 ?_
  refine lv_istore_n (lv' := [(3, .int (1 : Int32)), (2, .int v22), (1, va_rf none), (0, .ref o)]) hx hb dX1_nights_28 rfl hl (by decide) (by first | rfl | simp [va_rf_c]) (fun ls hl => ?_)
  refine lv_iconst (v := 0) hx hb dX1_nights_29 li_0 ?_
  refine lv_istore (lv' := [(4, .int (0 : Int32)), (3, .int (1 : Int32)), (2, .int v22), (1, va_rf none), (0, .ref o)]) hx hb dX1_nights_30 hl (by decide) (by first | rfl | simp [va_rf_c]) (fun ls hl => ?_)
  refine lv_iconst (v := 0) hx hb dX1_nights_32 li_0 ?_
  refine lv_istore (lv' := [(5, .int (0 : Int32)), (4, .int (0 : Int32)), (3, .int (1 : Int32)), (2, .int v22), (1, va_rf none), (0, .ref o)]) hx hb dX1_nights_33 hl (by decide) (by first | rfl | simp [va_rf_c]) (fun ls hl => ?_)
  obtain ⟨rl23, hw23, hfo23⟩ := bind_s hf
  have hx23_0 : ∀ (x23_0 : gK × gI × gJ × gX × gI × gJ × gX × Nat), w1_nights_e23_0 x23_0 = some out → ∀ (pc : Nat) (H : Heap) (locs : List Loc) (ls : Array Slot), decode cX1_nights pc = .ok (.return_, 1) → RS G x23_0.1 x23_0.2.1 x23_0.2.2.1 x23_0.2.2.2.1 x23_0.2.2.2.2.1 x23_0.2.2.2.2.2.1 x23_0.2.2.2.2.2.2.1 H → va_S (gA G) s.heap H locs → W p l e ({ frames := 6, cells := 0, slots := 0, locals := 138 } : Room) s m args below meth c H locs 0 0 Z (F0 m pc ls []) := by
    intro x23_0 hf pc H locs ls hd hR hS
    unfold w1_nights_e23_0 at hf
    obtain rfl := some_i hf
    exact hend _ _ _ _ hd hR hS
  refine whl_walk (P := fun (s23 : (Option Nat) × Int32 × Int32 × Int32 × Int32 × gI × gJ × gX × gI × gJ × gX) => ∀ (H : Heap) (locs : List Loc) (ls : Array Slot), RS G K s23.2.2.2.2.2.1 s23.2.2.2.2.2.2.1 s23.2.2.2.2.2.2.2.1 s23.2.2.2.2.2.2.2.2.1 s23.2.2.2.2.2.2.2.2.2.1 s23.2.2.2.2.2.2.2.2.2.2 H → va_S (gA G) s.heap H locs → lv_has ls 7 [(0, .ref o), (1, va_rf s23.1), (2, .int s23.2.1), (3, .int s23.2.2.1), (4, .int s23.2.2.2.1), (5, .int s23.2.2.2.2.1)] → W p l e ({ frames := 6, cells := 0, slots := 0, locals := 138 } : Room) s m args below meth c H locs 0 0 Z (F0 m 35 ls [])) (r := rl23) ?_ FU _ hw23 _ _ _ hR hS (lv_sub hl [5, 4, 3, 2, 1, 0] rfl)
  clear hR hS hl hf
  intro s23 o23 hf hk23 H locs ls hR hS hl
  obtain ⟨w23_1, w23_2, w23_3, w23_4, w23_5, w23_I, w23_J, w23_X, w23_A, w23_B, w23_Q⟩ := s23
  have hf : w1_nights_s23 o K n w23_1 w23_2 w23_3 w23_4 w23_5 w23_I w23_J w23_X w23_A w23_B w23_Q = some o23 := hf
  have hR : RS G K w23_I w23_J w23_X w23_A w23_B w23_Q H := hR
  have hl : lv_has ls 7 [(0, .ref o), (1, va_rf w23_1), (2, .int w23_2), (3, .int w23_3), (4, .int w23_4), (5, .int w23_5)] := hl
  unfold w1_nights_s23 at hf
  refine lv_iload hx hb dX1_nights_35 (lv_at hl 5 rfl) ?_
  refine lv_bipush (v := 60) hx hb dX1_nights_37 lb_60 ?_
  refine lv_icmp_ge (tgt := 305) hx hb dX1_nights_39 (by decide) (fun c24 => ?_) (fun c24 => ?_)
  · have hf := ite_t c24 hf
    obtain rfl := some_i hf
    replace hk23 : _ = rl23 := hk23
    subst hk23
    exact hx23_0 (K, w23_I, w23_J, w23_X, w23_A, w23_B, w23_Q, n) hfo23 _ _ _ _ dX1_nights_305 hR hS
  · have hf := ite_f c24 hf
    obtain ⟨rl25, hw25, hfo25⟩ := bind_s hf
    have hx25_0 : ∀ (x25_0 : (Option Nat) × Int32 × Int32 × gI × gJ × gX × gI × gJ × gX), w1_nights_e25_0 o K w23_2 w23_5 x25_0 = some o23 → ∀ (H : Heap) (locs : List Loc) (ls : Array Slot), RS G K x25_0.2.2.2.1 x25_0.2.2.2.2.1 x25_0.2.2.2.2.2.1 x25_0.2.2.2.2.2.2.1 x25_0.2.2.2.2.2.2.2.1 x25_0.2.2.2.2.2.2.2.2 H → va_S (gA G) s.heap H locs → lv_has ls 7 [(0, .ref o), (1, va_rf x25_0.1), (2, .int w23_2), (3, .int x25_0.2.1), (4, .int x25_0.2.2.1), (5, .int w23_5)] → W p l e ({ frames := 6, cells := 0, slots := 0, locals := 138 } : Room) s m args below meth c H locs 0 0 Z (F0 m 207 ls []) := by
      intro x25_0 hf H locs ls hR hS hl
      unfold w1_nights_e25_0 at hf
      refine lv_aload_n hx hb dX1_nights_207 rfl (lv_at hl 0 rfl) ?_
      obtain ⟨x26, ex26, hf⟩ := lt_some hf
      refine g_getx hx hb hts hown hG hR gFx_X1_192_0 k1 dX1_nights_208 ?_
      rw [← ex26]
      refine lv_iload hx hb dX1_nights_211 (lv_at hl 5 rfl) ?_
      refine n_aload_n hx hb dX1_nights_213 rfl (lv_at hl 1 rfl) ?_
      have hj227 : ∀ (j227_s0 : Int32) (j227_I : gI) (j227_J : gJ) (j227_X : gX) (j227_A : gI) (j227_B : gJ) (j227_Q : gX), w1_nights_j227 o K w23_2 w23_5 x25_0 x26 j227_s0 j227_I j227_J j227_X j227_A j227_B j227_Q = some o23 → ∀ (H : Heap) (locs : List Loc) (ls : Array Slot), RS G K j227_I j227_J j227_X j227_A j227_B j227_Q H → va_S (gA G) s.heap H locs → lv_has ls 7 [(0, .ref o), (1, va_rf x25_0.1), (2, .int w23_2), (3, .int x25_0.2.1), (4, .int x25_0.2.2.1), (5, .int w23_5)] → W p l e ({ frames := 6, cells := 0, slots := 0, locals := 138 } : Room) s m args below meth c H locs 0 0 Z (F0 m 227 ls [.int j227_s0, .int w23_5, va_rf x26]) := by
        intro j227_s0 j227_I j227_J j227_X j227_A j227_B j227_Q hf H locs ls hR hS hl
        unfold w1_nights_j227 at hf
        obtain ⟨a27, ha27, hf⟩ := bind_s hf
        try rw [ha27]
        obtain ⟨n28, hn28, hf⟩ := bind_s hf
        have kn28 := alen_k hn28
        obtain ⟨c29, hf⟩ := gdp_some hf
        refine g_iast hx hb hG hR hS kn28 c29 dX1_nights_227 (fun H locs hR hS => ?_)
        obtain ⟨Am30, eAm30, hf⟩ := lt_some hf
        rw [← eAm30] at hR
        refine n_aload_n hx hb dX1_nights_228 rfl (lv_at hl 1 rfl) ?_
        have hj240 : ∀ (j240_s0 : Int32), w1_nights_j240 o K w23_5 x25_0 j227_I j227_J j227_X j227_B j227_Q Am30 j240_s0 = some o23 → ∀ (H : Heap) (locs : List Loc) (ls : Array Slot), RS G K j227_I j227_J j227_X Am30 j227_B j227_Q H → va_S (gA G) s.heap H locs → lv_has ls 7 [(0, .ref o), (1, va_rf x25_0.1), (3, .int x25_0.2.1), (4, .int x25_0.2.2.1), (5, .int w23_5)] → W p l e ({ frames := 6, cells := 0, slots := 0, locals := 138 } : Room) s m args below meth c H locs 0 0 Z (F0 m 240 ls [.int j240_s0]) := by
          intro j240_s0 hf H locs ls hR hS hl
          unfold w1_nights_j240 at hf
          refine lv_istore_n (lv' := [(2, .int j240_s0), (0, .ref o), (1, va_rf x25_0.1), (3, .int x25_0.2.1), (4, .int x25_0.2.2.1), (5, .int w23_5)]) hx hb dX1_nights_240 rfl hl (by decide) (by first | rfl | simp [va_rf_c]) (fun ls hl => ?_)
          refine lv_aload_n hx hb dX1_nights_241 rfl (lv_at hl 1 rfl) ?_
          obtain ⟨x31, ex31, hf⟩ := lt_some hf
          refine g_getx hx hb hts hown hG hR gFx_X1_189_0 k1 dX1_nights_242 ?_
          rw [← ex31]
          refine lv_aload_n hx hb dX1_nights_245 rfl (lv_at hl 1 rfl) ?_
          refine g_getx hx hb hts hown hG hR gFx_X1_189_0 k1 dX1_nights_246 ?_
          rw [← ex31]
          refine lv_iload_n hx hb dX1_nights_249 rfl (lv_at hl 3 rfl) ?_
          obtain ⟨a32, ha32, hf⟩ := bind_s hf
          try rw [ha32]
          obtain ⟨a34, ha34, hf⟩ := bind_s hf
          obtain ⟨g35, hf⟩ := gdp_some hf
          obtain ⟨g36, hf⟩ := gdp_some hf
          obtain ⟨r33, hr33, hf⟩ := bind_s hf
          refine g0_cV (rm := (5, 114)) (As := [.int x25_0.2.1]) (rest := [.ref a32]) ⟨hx, hb, hml, hown, hts⟩ hG hR hS (m12_aimed l G K j227_I j227_J j227_X Am30 j227_B j227_Q a32 a34 g35 g36 ha34 x25_0.2.1 (j227_I 304 a34) (j227_I 305 a34) (j227_I 314 a34) (Am30 (a32 + 1)) (Am30 (a32 + 3)) (Am30 (a32 + 4)) rfl rfl rfl rfl rfl rfl r33 hr33) ⟨callB_of 1 hts (lw_meth q1336) rfl rfl rfl (hts _ q116) (hts _ q1333) (by decide +kernel) ⟨Nat.le_of_ble_eq_true rfl, Nat.le_of_ble_eq_true rfl⟩, hts _ q1334, hts _ q1335⟩ g35.1 rfl rfl hl.1 (Nat.le_of_ble_eq_true rfl) dX1_nights_250 ⟨Nat.zero_le _, Nat.zero_le _⟩ rfl (fun H locs hR hS => ?_)
          obtain ⟨Am37, eAm37, hf⟩ := lt_some hf
          rw [← eAm37] at hR
          refine lv_aload_n hx hb dX1_nights_253 rfl (lv_at hl 1 rfl) ?_
          obtain ⟨x38, ex38, hf⟩ := lt_some hf
          refine g_getx hx hb hts hown hG hR gFx_X1_192_0 k1 dX1_nights_254 ?_
          rw [← ex38]
          refine lv_iload hx hb dX1_nights_257 (lv_at hl 5 rfl) ?_
          obtain ⟨a39, ha39, hf⟩ := bind_s hf
          try rw [ha39]
          obtain ⟨n40, hn40, hf⟩ := bind_s hf
          have kn40 := alen_k hn40
          obtain ⟨c41, hf⟩ := gdp_some hf
          obtain ⟨v42, ev42, hf⟩ := lt_some hf
          refine g_iald hx hb hG hR kn40 c41 dX1_nights_259 ?_
          rw [← ev42]
          obtain ⟨a44, ha44, hf⟩ := bind_s hf
          obtain ⟨g45, hf⟩ := gdp_some hf
          obtain ⟨r43, hr43, hf⟩ := bind_s hf
          refine g0_cVv (rm := (4, 91)) (As := [.int r33.1, .int v42]) (rest := []) ⟨hx, hb, hml, hown, hts⟩ hG hR hS (m12_minute l G K j227_I j227_J j227_X Am37 j227_B j227_Q a32 a44 g35 g45 ha44 r33.1 v42 (j227_I 304 a44) (j227_I 305 a44) (j227_I 314 a44) (j227_I 905 a32) (Am37 (a32 + 1)) (Am37 (a32 + 2)) (Am37 (a32 + 3)) (Am37 (a32 + 4)) rfl rfl rfl rfl rfl rfl rfl rfl r43 hr43) ⟨callB_of 2 hts (lw_meth q1353) rfl rfl rfl (hts _ q116) (hts _ q1350) (by decide +kernel) ⟨Nat.le_of_ble_eq_true rfl, Nat.le_of_ble_eq_true rfl⟩, hts _ q1351, hts _ q1352⟩ g35.1 rfl rfl hl.1 (Nat.le_of_ble_eq_true rfl) dX1_nights_260 ⟨Nat.zero_le _, Nat.zero_le _⟩ rfl (fun H locs hR hS => ?_)
          obtain ⟨Im46, eIm46, hf⟩ := lt_some hf
          obtain ⟨Am47, eAm47, hf⟩ := lt_some hf
          rw [← eIm46, ← eAm47] at hR
          refine lv_aload_n hx hb dX1_nights_263 rfl (lv_at hl 1 rfl) ?_
          obtain ⟨x48, ex48, hf⟩ := lt_some hf
          refine g_getx hx hb hts hown hG hR gFx_X1_195_0 k1 dX1_nights_264 ?_
          rw [← ex48]
          refine lv_iload hx hb dX1_nights_267 (lv_at hl 5 rfl) ?_
          refine lv_aload_n hx hb dX1_nights_269 rfl (lv_at hl 1 rfl) ?_
          refine g_getx hx hb hts hown hG hR gFx_X1_189_0 k1 dX1_nights_270 ?_
          rw [← ex31]
          try rw [ha32]
          obtain ⟨k49, hf⟩ := gdp_some hf
          obtain ⟨v50, ev50, hf⟩ := lt_some hf
          refine n_geti (v := v50) hx hb hts hown hG hR gFi_X1_459_9 k49 ev50.symm dX1_nights_273 ?_
          obtain ⟨a51, ha51, hf⟩ := bind_s hf
          try rw [ha51]
          obtain ⟨n52, hn52, hf⟩ := bind_s hf
          have kn52 := alen_k hn52
          obtain ⟨c53, hf⟩ := gdp_some hf
          refine g_iast hx hb hG hR hS kn52 c53 dX1_nights_276 (fun H locs hR hS => ?_)
          obtain ⟨Am54, eAm54, hf⟩ := lt_some hf
          rw [← eAm54] at hR
          refine lv_aload_n hx hb dX1_nights_277 rfl (lv_at hl 1 rfl) ?_
          obtain ⟨x55, ex55, hf⟩ := lt_some hf
          refine g_getx hx hb hts hown hG hR gFx_X1_197_0 k1 dX1_nights_278 ?_
          rw [← ex55]
          refine lv_iload hx hb dX1_nights_281 (lv_at hl 5 rfl) ?_
          refine lv_aload_n hx hb dX1_nights_283 rfl (lv_at hl 1 rfl) ?_
          refine g_getx hx hb hts hown hG hR gFx_X1_189_0 k1 dX1_nights_284 ?_
          rw [← ex31]
          try rw [ha32]
          obtain ⟨r56, hr56, hf⟩ := bind_s hf
          refine g0_cV (rm := (0, 0)) (As := []) (rest := [.int w23_5, va_rf x55]) ⟨hx, hb, hml, hown, hts⟩ hG hR hS (m12_burning l G K Im46 j227_J j227_X Am54 j227_B j227_Q a32 g35 (Am54 (a32 + 4)) rfl r56 hr56) ⟨callB_of 0 hts (lw_meth q1327) rfl rfl rfl (hts _ q116) (hts _ q1324) (by decide +kernel) ⟨Nat.le_of_ble_eq_true rfl, Nat.le_of_ble_eq_true rfl⟩, hts _ q1325, hts _ q1326⟩ g35.1 rfl rfl hl.1 (by simp [va_rf_c, cat_r, cat_i, cat_l, cat_n]) dX1_nights_287 ⟨Nat.zero_le _, Nat.zero_le _⟩ rfl (fun H locs hR hS => ?_)
          obtain ⟨a57, ha57, hf⟩ := bind_s hf
          try rw [ha57]
          obtain ⟨n58, hn58, hf⟩ := bind_s hf
          have kn58 := alen_k hn58
          obtain ⟨c59, hf⟩ := gdp_some hf
          refine g_iast hx hb hG hR hS kn58 c59 dX1_nights_290 (fun H locs hR hS => ?_)
          obtain ⟨Am60, eAm60, hf⟩ := lt_some hf
          rw [← eAm60] at hR
          refine lv_aload_n hx hb dX1_nights_291 rfl (lv_at hl 1 rfl) ?_
          obtain ⟨x61, ex61, hf⟩ := lt_some hf
          refine g_getx hx hb hts hown hG hR gFx_X1_200_0 k1 dX1_nights_292 ?_
          rw [← ex61]
          refine lv_iload hx hb dX1_nights_295 (lv_at hl 5 rfl) ?_
          refine lv_iload_n hx hb dX1_nights_297 rfl (lv_at hl 0 rfl) ?_
          obtain ⟨a62, ha62, hf⟩ := bind_s hf
          try rw [ha62]
          obtain ⟨n63, hn63, hf⟩ := bind_s hf
          have kn63 := alen_k hn63
          obtain ⟨c64, hf⟩ := gdp_some hf
          refine g_iast hx hb hG hR hS kn63 c64 dX1_nights_298 (fun H locs hR hS => ?_)
          obtain ⟨Am65, eAm65, hf⟩ := lt_some hf
          rw [← eAm65] at hR
          obtain ⟨v66, ev66, hf⟩ := lt_some hf
          refine lv_iinc (k := 5) (v := v66) (lv' := [(5, .int v66), (2, .int j240_s0), (0, .ref o), (1, va_rf x25_0.1), (3, .int x25_0.2.1), (4, .int x25_0.2.2.1)]) hx hb dX1_nights_299 hl rfl (by rw [ev66]; rfl) (by decide) rfl (fun ls hl => ?_)
          refine lv_goto (tgt := 35) hx hb dX1_nights_302 (by decide) ?_
          obtain rfl := some_i hf
          exact hk23 _ _ _ hR hS (lv_sub hl [2, 3, 1, 4, 5, 0] rfl)
        by_cases c67 : x25_0.1 = none
        · have hf := ite_t c67 hf
          refine n_isnone c67 ?_
          refine lv_ifnonnullN hx hb dX1_nights_229 ?_
          refine lv_iload_n hx hb dX1_nights_232 rfl (lv_at hl 2 rfl) ?_
          refine lv_goto (tgt := 240) hx hb dX1_nights_233 (by decide) ?_
          exact hj240 w23_2 hf _ _ _ hR hS (lv_sub hl [0, 1, 3, 4, 5] rfl)
        · have hf := ite_f c67 hf
          obtain ⟨yc67, hc67⟩ := Option.ne_none_iff_exists'.mp c67
          refine n_some hc67 ?_
          refine lv_ifnonnull (tgt := 236) hx hb dX1_nights_229 (by decide) ?_
          refine n_aload_n hx hb dX1_nights_236 rfl (lv_at hl 1 rfl) ?_
          obtain ⟨a68, ha68, hf⟩ := bind_s hf
          try rw [ha68]
          by_cases k69 : K a68 = some (.inl 7)
          · have hf := ite_t k69 hf
            obtain ⟨v70, ev70, hf⟩ := lt_some hf
            refine n_geti (v := v70) hx hb hts hown hG hR gFi_X1_510_7 k69 ev70.symm dX1_nights_237 ?_
            exact hj240 v70 hf _ _ _ hR hS (lv_sub hl [0, 1, 3, 4, 5] rfl)
          have hf := ite_f k69 hf
          obtain ⟨k71, hf⟩ := gdp_some hf
          obtain ⟨v72, ev72, hf⟩ := lt_some hf
          refine n_geti (v := v72) hx hb hts hown hG hR gFi_X1_510_8 k71 ev72.symm dX1_nights_237 ?_
          exact hj240 v72 hf _ _ _ hR hS (lv_sub hl [0, 1, 3, 4, 5] rfl)
      by_cases c73 : x25_0.1 = none
      · have hf := ite_t c73 hf
        refine n_isnone c73 ?_
        refine lv_ifnonnullN hx hb dX1_nights_214 ?_
        refine lv_iconst (v := 0) hx hb dX1_nights_217 li_0 ?_
        refine lv_goto (tgt := 227) hx hb dX1_nights_218 (by decide) ?_
        exact hj227 (0 : Int32) x25_0.2.2.2.1 x25_0.2.2.2.2.1 x25_0.2.2.2.2.2.1 x25_0.2.2.2.2.2.2.1 x25_0.2.2.2.2.2.2.2.1 x25_0.2.2.2.2.2.2.2.2 hf _ _ _ hR hS (lv_sub hl [0, 1, 2, 3, 4, 5] rfl)
      · have hf := ite_f c73 hf
        obtain ⟨yc73, hc73⟩ := Option.ne_none_iff_exists'.mp c73
        refine n_some hc73 ?_
        refine lv_ifnonnull (tgt := 221) hx hb dX1_nights_214 (by decide) ?_
        refine n_aload_n hx hb dX1_nights_221 rfl (lv_at hl 1 rfl) ?_
        refine lv_bipush (v := 60) hx hb dX1_nights_222 lb_60 ?_
        obtain ⟨a74, ha74, hf⟩ := bind_s hf
        try rw [ha74]
        by_cases k75 : K a74 = some (.inl 7)
        · have hf := ite_t k75 hf
          obtain ⟨a77, ha77, hf⟩ := bind_s hf
          obtain ⟨g78, hf⟩ := gdp_some hf
          obtain ⟨g79, hf⟩ := gdp_some hf
          obtain ⟨g80, hf⟩ := gdp_some hf
          obtain ⟨g81, hf⟩ := gdp_some hf
          obtain ⟨r76, hr76, hf⟩ := bind_s hf
          refine g0_cU (rm := (4, 85)) (As := [.int (60 : Int32)]) (rest := [.int w23_5, va_rf x26]) ⟨hx, hb, hml, hown, hts⟩ hG hR hS (m9_goesR l G K x25_0.2.2.2.1 x25_0.2.2.2.2.1 x25_0.2.2.2.2.2.1 x25_0.2.2.2.2.2.2.1 x25_0.2.2.2.2.2.2.2.1 x25_0.2.2.2.2.2.2.2.2 a74 a77 g78 g79 ha77 g80 (60 : Int32) (x25_0.2.2.2.1 306 a77) (x25_0.2.2.2.1 308 a77) (x25_0.2.2.2.1 309 a77) (x25_0.2.2.2.1 311 a77) (x25_0.2.2.2.1 312 a77) (x25_0.2.2.2.1 313 a77) (x25_0.2.2.2.1 702 a74) (x25_0.2.2.2.1 703 a74) (x25_0.2.2.2.1 704 a74) (x25_0.2.2.2.1 705 a74) (x25_0.2.2.2.1 714 a74) (x25_0.2.2.2.1 715 a74) (x25_0.2.2.2.1 716 a74) (x25_0.2.2.2.1 717 a74) (x25_0.2.2.2.1 718 a74) (x25_0.2.2.2.2.2.2.1 (a74 + 1)) (x25_0.2.2.2.2.2.2.1 (a74 + 2)) (x25_0.2.2.2.2.2.2.1 (a74 + 3)) (x25_0.2.2.2.2.2.2.1 (a74 + 4)) (x25_0.2.2.2.2.2.2.1 (a74 + 5)) (x25_0.2.2.2.2.2.2.1 (a74 + 6)) (x25_0.2.2.2.2.2.2.1 (a74 + 7)) (x25_0.2.2.2.2.2.2.1 (a74 + 21)) (x25_0.2.2.2.2.2.2.2.2 (a77 + 1)) (x25_0.2.2.2.1 1201) (x25_0.2.2.2.1 1203) (fun j => x25_0.2.2.2.2.2.2.1 ((a74 + 9) + j)) rfl rfl rfl rfl rfl rfl rfl rfl rfl rfl rfl rfl rfl rfl rfl rfl rfl rfl rfl rfl rfl rfl rfl rfl rfl rfl (fun _ _ => rfl) g81 r76 hr76) (va_cwU (x := ⟨"PailRow$Team", "goes", "(I)I"⟩) (owner := "PailRow$Team") 1 hts gu_X1_509_7 rfl rfl rfl rfl ⟨by decide +kernel, by decide +kernel, by decide +kernel⟩ ⟨Nat.le_of_ble_eq_true rfl, Nat.le_of_ble_eq_true rfl⟩) g78.1 rfl rfl hl.1 (by simp [va_rf_c, cat_r, cat_i, cat_l, cat_n]) dX1_nights_224 ⟨Nat.zero_le _, Nat.zero_le _⟩ rfl (fun H locs hR hS => ?_)
          obtain ⟨Im82, eIm82, hf⟩ := lt_some hf
          obtain ⟨Am83, eAm83, hf⟩ := lt_some hf
          rw [← eIm82, ← eAm83] at hR
          exact hj227 r76.1 Im82 x25_0.2.2.2.2.1 x25_0.2.2.2.2.2.1 Am83 x25_0.2.2.2.2.2.2.2.1 x25_0.2.2.2.2.2.2.2.2 hf _ _ _ hR hS (lv_sub hl [0, 1, 2, 3, 4, 5] rfl)
        have hf := ite_f k75 hf
        obtain ⟨k84, hf⟩ := gdp_some hf
        obtain ⟨a86, ha86, hf⟩ := bind_s hf
        obtain ⟨g87, hf⟩ := gdp_some hf
        obtain ⟨g88, hf⟩ := gdp_some hf
        obtain ⟨g89, hf⟩ := gdp_some hf
        obtain ⟨r85, hr85, hf⟩ := bind_s hf
        refine g0_cU (rm := (3, 63)) (As := [.int (60 : Int32)]) (rest := [.int w23_5, va_rf x26]) ⟨hx, hb, hml, hown, hts⟩ hG hR hS (m9_goesN l G K x25_0.2.2.2.1 x25_0.2.2.2.2.1 x25_0.2.2.2.2.2.1 x25_0.2.2.2.2.2.2.1 x25_0.2.2.2.2.2.2.2.1 x25_0.2.2.2.2.2.2.2.2 a74 a86 g87 g88 ha86 (60 : Int32) (x25_0.2.2.2.1 306 a86) (x25_0.2.2.2.1 308 a86) (x25_0.2.2.2.1 309 a86) (x25_0.2.2.2.1 802 a74) (x25_0.2.2.2.1 803 a74) (x25_0.2.2.2.1 804 a74) (x25_0.2.2.2.1 805 a74) (x25_0.2.2.2.1 809 a74) (x25_0.2.2.2.2.2.2.1 (a74 + 1)) (x25_0.2.2.2.2.2.2.1 (a74 + 2)) (x25_0.2.2.2.2.2.2.1 (a74 + 3)) (x25_0.2.2.2.2.2.2.1 (a74 + 4)) (x25_0.2.2.2.2.2.2.2.2 (a86 + 1)) (x25_0.2.2.2.1 1202) rfl rfl rfl rfl rfl rfl rfl rfl rfl rfl rfl rfl rfl rfl g89 r85 hr85) (va_cwU (x := ⟨"PailRow$Team", "goes", "(I)I"⟩) (owner := "PailRow$Team") 1 hts gu_X1_509_8 rfl rfl rfl rfl ⟨by decide +kernel, by decide +kernel, by decide +kernel⟩ ⟨Nat.le_of_ble_eq_true rfl, Nat.le_of_ble_eq_true rfl⟩) g87.1 rfl rfl hl.1 (by simp [va_rf_c, cat_r, cat_i, cat_l, cat_n]) dX1_nights_224 ⟨Nat.zero_le _, Nat.zero_le _⟩ rfl (fun H locs hR hS => ?_)
        obtain ⟨Im90, eIm90, hf⟩ := lt_some hf
        obtain ⟨Am91, eAm91, hf⟩ := lt_some hf
        rw [← eIm90, ← eAm91] at hR
        exact hj227 r85.1 Im90 x25_0.2.2.2.2.1 x25_0.2.2.2.2.2.1 Am91 x25_0.2.2.2.2.2.2.2.1 x25_0.2.2.2.2.2.2.2.2 hf _ _ _ hR hS (lv_sub hl [0, 1, 2, 3, 4, 5] rfl)
    refine whl_walk (P := fun (s25 : (Option Nat) × Int32 × Int32 × gI × gJ × gX × gI × gJ × gX) => ∀ (H : Heap) (locs : List Loc) (ls : Array Slot), RS G K s25.2.2.2.1 s25.2.2.2.2.1 s25.2.2.2.2.2.1 s25.2.2.2.2.2.2.1 s25.2.2.2.2.2.2.2.1 s25.2.2.2.2.2.2.2.2 H → va_S (gA G) s.heap H locs → lv_has ls 7 [(0, .ref o), (1, va_rf s25.1), (2, .int w23_2), (3, .int s25.2.1), (4, .int s25.2.2.1), (5, .int w23_5)] → W p l e ({ frames := 6, cells := 0, slots := 0, locals := 138 } : Room) s m args below meth c H locs 0 0 Z (F0 m 42 ls [])) (r := rl25) ?_ FU _ hw25 _ _ _ hR hS (lv_sub hl [0, 1, 2, 3, 4, 5] rfl)
    clear hR hS hl hf
    intro s25 o25 hf hk25 H locs ls hR hS hl
    obtain ⟨w25_1, w25_3, w25_4, w25_I, w25_J, w25_X, w25_A, w25_B, w25_Q⟩ := s25
    have hf : w1_nights_s25 o K w23_2 w23_5 w25_1 w25_3 w25_4 w25_I w25_J w25_X w25_A w25_B w25_Q = some o25 := hf
    have hR : RS G K w25_I w25_J w25_X w25_A w25_B w25_Q H := hR
    have hl : lv_has ls 7 [(0, .ref o), (1, va_rf w25_1), (2, .int w23_2), (3, .int w25_3), (4, .int w25_4), (5, .int w23_5)] := hl
    unfold w1_nights_s25 at hf
    refine lv_iload hx hb dX1_nights_42 (lv_at hl 4 rfl) ?_
    refine lv_aload_n hx hb dX1_nights_44 rfl (lv_at hl 0 rfl) ?_
    obtain ⟨x92, ex92, hf⟩ := lt_some hf
    refine g_getx hx hb hts hown hG hR gFx_X1_96_0 k1 dX1_nights_45 ?_
    rw [← ex92]
    obtain ⟨a93, ha93, hf⟩ := bind_s hf
    try rw [ha93]
    obtain ⟨k94, hf⟩ := gdp_some hf
    obtain ⟨x95, ex95, hf⟩ := lt_some hf
    refine g_getx hx hb hts hown hG hR gFx_X1_248_2 k94 dX1_nights_48 ?_
    rw [← ex95]
    obtain ⟨a96, ha96, hf⟩ := bind_s hf
    try rw [ha96]
    obtain ⟨k97, hf⟩ := gdp_some hf
    obtain ⟨v98, ev98, hf⟩ := lt_some hf
    refine n_geti (v := v98) hx hb hts hown hG hR gFi_X1_265_4 k97 ev98.symm dX1_nights_51 ?_
    refine lv_icmp_ge (tgt := 207) hx hb dX1_nights_54 (by decide) (fun c99 => ?_) (fun c99 => ?_)
    · have hf := ite_t c99 hf
      obtain rfl := some_i hf
      replace hk25 : _ = rl25 := hk25
      subst hk25
      exact hx25_0 (w25_1, w25_3, w25_4, w25_I, w25_J, w25_X, w25_A, w25_B, w25_Q) hfo25 _ _ _ hR hS (lv_sub hl [0, 1, 2, 3, 4, 5] rfl)
    · have hf := ite_f c99 hf
      refine lv_aload_n hx hb dX1_nights_57 rfl (lv_at hl 0 rfl) ?_
      refine g_getx hx hb hts hown hG hR gFx_X1_96_0 k1 dX1_nights_58 ?_
      rw [← ex92]
      try rw [ha93]
      refine g_getx hx hb hts hown hG hR gFx_X1_248_2 k94 dX1_nights_61 ?_
      rw [← ex95]
      try rw [ha96]
      obtain ⟨x100, ex100, hf⟩ := lt_some hf
      refine g_getx hx hb hts hown hG hR gFx_X1_490_4 k97 dX1_nights_64 ?_
      rw [← ex100]
      refine lv_iload hx hb dX1_nights_67 (lv_at hl 4 rfl) ?_
      obtain ⟨a101, ha101, hf⟩ := bind_s hf
      try rw [ha101]
      obtain ⟨n102, hn102, hf⟩ := bind_s hf
      have kn102 := alen_k hn102
      obtain ⟨c103, hf⟩ := gdp_some hf
      obtain ⟨x104, ex104, hf⟩ := lt_some hf
      refine g_aald (t := 1) hx hb hG hR kn102 (by decide) c103 dX1_nights_69 ?_
      rw [← ex104]
      obtain ⟨a105, ha105, hf⟩ := bind_s hf
      try rw [ha105]
      obtain ⟨k106, hf⟩ := gdp_some hf
      obtain ⟨v107, ev107, hf⟩ := lt_some hf
      refine n_geti (v := v107) hx hb hts hown hG hR gFi_X1_493_13 k106 ev107.symm dX1_nights_70 ?_
      refine lv_iload hx hb dX1_nights_73 (lv_at hl 5 rfl) ?_
      refine lv_icmp_ne (tgt := 207) hx hb dX1_nights_75 (by decide) (fun c108 => ?_) (fun c108 => ?_)
      · have hf := ite_f c108 hf
        obtain rfl := some_i hf
        replace hk25 : _ = rl25 := hk25
        subst hk25
        exact hx25_0 (w25_1, w25_3, w25_4, w25_I, w25_J, w25_X, w25_A, w25_B, w25_Q) hfo25 _ _ _ hR hS (lv_sub hl [0, 1, 2, 3, 4, 5] rfl)
      · have hf := ite_t c108 hf
        refine lv_aload_n hx hb dX1_nights_78 rfl (lv_at hl 0 rfl) ?_
        refine g_getx hx hb hts hown hG hR gFx_X1_96_0 k1 dX1_nights_79 ?_
        rw [← ex92]
        try rw [ha93]
        refine g_getx hx hb hts hown hG hR gFx_X1_248_2 k94 dX1_nights_82 ?_
        rw [← ex95]
        try rw [ha96]
        refine g_getx hx hb hts hown hG hR gFx_X1_490_4 k97 dX1_nights_85 ?_
        rw [← ex100]
        refine lv_iload hx hb dX1_nights_88 (lv_at hl 4 rfl) ?_
        try rw [ha101]
        obtain ⟨c109, hf⟩ := gdp_some hf
        refine g_aald (t := 1) hx hb hG hR kn102 (by decide) c109 dX1_nights_90 ?_
        rw [← ex104]
        refine n_astore (x := x104) (lv' := [(6, va_rf x104), (0, .ref o), (1, va_rf w25_1), (2, .int w23_2), (3, .int w25_3), (4, .int w25_4), (5, .int w23_5)]) hx hb dX1_nights_91 hl (by decide) (by first | rfl | simp [va_rf_c]) (fun ls hl => ?_)
        refine n_aload hx hb dX1_nights_93 (lv_at hl 0 rfl) ?_
        try rw [ha105]
        obtain ⟨v110, ev110, hf⟩ := lt_some hf
        refine n_geti (v := v110) hx hb hts hown hG hR gFi_X1_497_13 k106 ev110.symm dX1_nights_95 ?_
        refine lv_iconst (v := 3) hx hb dX1_nights_98 li_3 ?_
        have hj108 : ∀ (j108_3 : Int32), w1_nights_j108 o K w23_2 w25_1 w25_4 w25_I w25_J w25_X w25_A w25_B w25_Q a105 v110 j108_3 = some o25 → ∀ (H : Heap) (locs : List Loc) (ls : Array Slot), RS G K w25_I w25_J w25_X w25_A w25_B w25_Q H → va_S (gA G) s.heap H locs → lv_has ls 7 [(0, .ref o), (1, va_rf w25_1), (2, .int w23_2), (3, .int j108_3), (4, .int w25_4), (5, .int w23_5), (6, va_rf x104)] → W p l e ({ frames := 6, cells := 0, slots := 0, locals := 138 } : Room) s m args below meth c H locs 0 0 Z (F0 m 108 ls []) := by
          intro j108_3 hf H locs ls hR hS hl
          unfold w1_nights_j108 at hf
          refine n_aload hx hb dX1_nights_108 (lv_at hl 6 rfl) ?_
          try rw [ha105]
          refine n_geti (v := v110) hx hb hts hown hG hR gFi_X1_497_13 k106 ev110.symm dX1_nights_110 ?_
          refine lv_iconst (v := 4) hx hb dX1_nights_113 li_4 ?_
          have hj130 : ∀ (j130_I : gI) (j130_J : gJ) (j130_X : gX) (j130_A : gI) (j130_B : gJ) (j130_Q : gX), w1_nights_j130 o K w23_2 w25_1 w25_4 a105 j108_3 j130_I j130_J j130_X j130_A j130_B j130_Q = some o25 → ∀ (H : Heap) (locs : List Loc) (ls : Array Slot), RS G K j130_I j130_J j130_X j130_A j130_B j130_Q H → va_S (gA G) s.heap H locs → lv_has ls 7 [(0, .ref o), (1, va_rf w25_1), (2, .int w23_2), (3, .int j108_3), (4, .int w25_4), (5, .int w23_5), (6, va_rf x104)] → W p l e ({ frames := 6, cells := 0, slots := 0, locals := 138 } : Room) s m args below meth c H locs 0 0 Z (F0 m 130 ls []) := by
            intro j130_I j130_J j130_X j130_A j130_B j130_Q hf H locs ls hR hS hl
            unfold w1_nights_j130 at hf
            refine n_aload hx hb dX1_nights_130 (lv_at hl 6 rfl) ?_
            try rw [ha105]
            obtain ⟨v111, ev111, hf⟩ := lt_some hf
            refine n_geti (v := v111) hx hb hts hown hG hR gFi_X1_497_13 k106 ev111.symm dX1_nights_132 ?_
            refine lv_iconst (v := 2) hx hb dX1_nights_135 li_2 ?_
            have hj201 : ∀ (j201_1 : Option Nat) (j201_I : gI) (j201_J : gJ) (j201_X : gX) (j201_A : gI) (j201_B : gJ) (j201_Q : gX), w1_nights_j201 w25_4 j108_3 j201_1 j201_I j201_J j201_X j201_A j201_B j201_Q = some o25 → ∀ (H : Heap) (locs : List Loc) (ls : Array Slot), RS G K j201_I j201_J j201_X j201_A j201_B j201_Q H → va_S (gA G) s.heap H locs → lv_has ls 7 [(0, .ref o), (1, va_rf j201_1), (2, .int w23_2), (3, .int j108_3), (4, .int w25_4), (5, .int w23_5)] → W p l e ({ frames := 6, cells := 0, slots := 0, locals := 138 } : Room) s m args below meth c H locs 0 0 Z (F0 m 201 ls []) := by
              intro j201_1 j201_I j201_J j201_X j201_A j201_B j201_Q hf H locs ls hR hS hl
              unfold w1_nights_j201 at hf
              obtain ⟨v112, ev112, hf⟩ := lt_some hf
              refine lv_iinc (k := 4) (v := v112) (lv' := [(4, .int v112), (0, .ref o), (1, va_rf j201_1), (2, .int w23_2), (3, .int j108_3), (5, .int w23_5)]) hx hb dX1_nights_201 hl rfl (by rw [ev112]; rfl) (by decide) rfl (fun ls hl => ?_)
              refine lv_goto (tgt := 42) hx hb dX1_nights_204 (by decide) ?_
              obtain rfl := some_i hf
              exact hk25 _ _ _ hR hS (lv_sub hl [1, 2, 3, 4, 0, 5] rfl)
            refine lv_icmp_le (tgt := 142) hx hb dX1_nights_136 (by decide) (fun c113 => ?_) (fun c113 => ?_)
            · have hf := ite_t c113 hf
              refine n_aload hx hb dX1_nights_142 (lv_at hl 6 rfl) ?_
              try rw [ha105]
              refine n_geti (v := v111) hx hb hts hown hG hR gFi_X1_497_13 k106 ev111.symm dX1_nights_144 ?_
              have hj174 : ∀ (j174_s0 : Option Nat), w1_nights_j174 o K w23_2 w25_4 a105 j108_3 j130_I j130_J j130_X j130_A j130_B j130_Q j174_s0 = some o25 → ∀ (H : Heap) (locs : List Loc) (ls : Array Slot), RS G K j130_I j130_J j130_X j130_A j130_B j130_Q H → va_S (gA G) s.heap H locs → lv_has ls 7 [(0, .ref o), (2, .int w23_2), (3, .int j108_3), (4, .int w25_4), (5, .int w23_5), (6, va_rf x104)] → W p l e ({ frames := 6, cells := 0, slots := 0, locals := 138 } : Room) s m args below meth c H locs 0 0 Z (F0 m 174 ls [va_rf j174_s0]) := by
                intro j174_s0 hf H locs ls hR hS hl
                unfold w1_nights_j174 at hf
                refine n_astore_n (x := j174_s0) (lv' := [(1, va_rf j174_s0), (0, .ref o), (2, .int w23_2), (3, .int j108_3), (4, .int w25_4), (5, .int w23_5), (6, va_rf x104)]) hx hb dX1_nights_174 rfl hl (by decide) (by first | rfl | simp [va_rf_c]) (fun ls hl => ?_)
                refine n_aload_n hx hb dX1_nights_175 rfl (lv_at hl 0 rfl) ?_
                by_cases c114 : j174_s0 = none
                · have hf := ite_t c114 hf
                  refine n_isnone c114 ?_
                  refine lv_ifnullN (tgt := 201) hx hb dX1_nights_176 (by decide) ?_
                  exact hj201 j174_s0 j130_I j130_J j130_X j130_A j130_B j130_Q hf _ _ _ hR hS (lv_sub hl [1, 0, 2, 3, 4, 5] rfl)
                · have hf := ite_f c114 hf
                  obtain ⟨yc114, hc114⟩ := Option.ne_none_iff_exists'.mp c114
                  refine n_some hc114 ?_
                  refine lv_ifnull hx hb dX1_nights_176 ?_
                  refine n_aload_n hx hb dX1_nights_179 rfl (lv_at hl 0 rfl) ?_
                  refine lv_aload_n hx hb dX1_nights_180 rfl (lv_at hl 1 rfl) ?_
                  obtain ⟨x115, ex115, hf⟩ := lt_some hf
                  refine g_getx hx hb hts hown hG hR gFx_X1_96_0 k1 dX1_nights_181 ?_
                  rw [← ex115]
                  obtain ⟨a116, ha116, hf⟩ := bind_s hf
                  try rw [ha116]
                  obtain ⟨k117, hf⟩ := gdp_some hf
                  obtain ⟨x118, ex118, hf⟩ := lt_some hf
                  refine g_getx hx hb hts hown hG hR gFx_X1_241_2 k117 dX1_nights_184 ?_
                  rw [← ex118]
                  refine n_aload hx hb dX1_nights_187 (lv_at hl 6 rfl) ?_
                  try rw [ha105]
                  obtain ⟨x119, ex119, hf⟩ := lt_some hf
                  refine g_getx hx hb hts hown hG hR gFx_X1_503_13 k106 dX1_nights_189 ?_
                  rw [← ex119]
                  refine n_aload hx hb dX1_nights_192 (lv_at hl 6 rfl) ?_
                  try rw [ha105]
                  obtain ⟨v120, ev120, hf⟩ := lt_some hf
                  refine n_geti (v := v120) hx hb hts hown hG hR gFi_X1_505_13 k106 ev120.symm dX1_nights_194 ?_
                  refine lv_iload_n hx hb dX1_nights_197 rfl (lv_at hl 2 rfl) ?_
                  obtain ⟨a121, ha121, hf⟩ := bind_s hf
                  try rw [ha121]
                  by_cases k122 : K a121 = some (.inl 7)
                  · have hf := ite_t k122 hf
                    obtain ⟨a123, ha123, hf⟩ := bind_s hf
                    try rw [ha123]
                    obtain ⟨a124, ha124, hf⟩ := bind_s hf
                    try rw [ha124]
                    obtain ⟨n126, hn126, hf⟩ := bind_s hf
                    have kn126 := alen_k hn126
                    obtain ⟨g127, hf⟩ := gdp_some hf
                    obtain ⟨g128, hf⟩ := gdp_some hf
                    obtain ⟨g129, hf⟩ := gdp_some hf
                    obtain ⟨r125, hr125, hf⟩ := bind_s hf
                    refine g0_cUv (rm := (2, 50)) (As := [.ref a123, .ref a124, .int v120, .int w23_2]) (rest := []) ⟨hx, hb, hml, hown, hts⟩ hG hR hS (m10_begin l G K j130_I j130_J j130_X j130_A j130_B j130_Q a121 a123 g127 g128 a124 n126 kn126 g129 v120 w23_2 (j130_I 307 a123) (j130_I 702 a121) (j130_I 703 a121) (j130_I 704 a121) (j130_I 705 a121) (j130_I 714 a121) (j130_I 715 a121) (j130_I 716 a121) (j130_I 717 a121) (j130_I 718 a121) (j130_X 701 a121) (j130_A (a121 + 1)) (j130_A (a121 + 2)) (j130_A (a121 + 3)) (j130_A (a121 + 4)) (j130_A (a121 + 5)) (j130_A (a121 + 6)) (j130_A (a121 + 7)) (j130_A a124) rfl rfl rfl rfl rfl rfl rfl rfl rfl rfl rfl rfl rfl rfl rfl rfl rfl rfl rfl r125 hr125) (va_cwO (x := ⟨"PailRow$Team", "begin", "(LPailRow$Yard;[III)V"⟩) (owner := "PailRow$Team") 4 hts go_X1_506_7 rfl rfl rfl q1139 ⟨by decide +kernel, by decide +kernel, by decide +kernel⟩ ⟨Nat.le_of_ble_eq_true rfl, Nat.le_of_ble_eq_true rfl⟩) g127.1 rfl rfl hl.1 (Nat.le_of_ble_eq_true rfl) dX1_nights_198 ⟨Nat.zero_le _, Nat.zero_le _⟩ rfl (fun H locs hR hS => ?_)
                    obtain ⟨Im130, eIm130, hf⟩ := lt_some hf
                    obtain ⟨Xm131, eXm131, hf⟩ := lt_some hf
                    obtain ⟨Am132, eAm132, hf⟩ := lt_some hf
                    rw [← eIm130, ← eXm131, ← eAm132] at hR
                    exact hj201 j174_s0 Im130 j130_J Xm131 Am132 j130_B j130_Q hf _ _ _ hR hS (lv_sub hl [1, 0, 2, 3, 4, 5] rfl)
                  have hf := ite_f k122 hf
                  obtain ⟨k133, hf⟩ := gdp_some hf
                  obtain ⟨a134, ha134, hf⟩ := bind_s hf
                  try rw [ha134]
                  obtain ⟨a135, ha135, hf⟩ := bind_s hf
                  try rw [ha135]
                  obtain ⟨n137, hn137, hf⟩ := bind_s hf
                  have kn137 := alen_k hn137
                  obtain ⟨g138, hf⟩ := gdp_some hf
                  obtain ⟨g139, hf⟩ := gdp_some hf
                  obtain ⟨g140, hf⟩ := gdp_some hf
                  obtain ⟨r136, hr136, hf⟩ := bind_s hf
                  refine g0_cUv (rm := (2, 50)) (As := [.ref a134, .ref a135, .int v120, .int w23_2]) (rest := []) ⟨hx, hb, hml, hown, hts⟩ hG hR hS (m11_begin l G K j130_I j130_J j130_X j130_A j130_B j130_Q a121 a134 g138 g139 a135 n137 kn137 g140 v120 w23_2 (j130_I 307 a134) (j130_I 802 a121) (j130_I 803 a121) (j130_I 804 a121) (j130_I 805 a121) (j130_I 809 a121) (j130_X 801 a121) (j130_A (a121 + 1)) (j130_A (a121 + 2)) (j130_A a135) rfl rfl rfl rfl rfl rfl rfl rfl rfl rfl r136 hr136) (va_cwO (x := ⟨"PailRow$Team", "begin", "(LPailRow$Yard;[III)V"⟩) (owner := "PailRow$Team") 4 hts go_X1_506_8 rfl rfl rfl q1139 ⟨by decide +kernel, by decide +kernel, by decide +kernel⟩ ⟨Nat.le_of_ble_eq_true rfl, Nat.le_of_ble_eq_true rfl⟩) g138.1 rfl rfl hl.1 (Nat.le_of_ble_eq_true rfl) dX1_nights_198 ⟨Nat.zero_le _, Nat.zero_le _⟩ rfl (fun H locs hR hS => ?_)
                  obtain ⟨Im141, eIm141, hf⟩ := lt_some hf
                  obtain ⟨Xm142, eXm142, hf⟩ := lt_some hf
                  obtain ⟨Am143, eAm143, hf⟩ := lt_some hf
                  rw [← eIm141, ← eXm142, ← eAm143] at hR
                  exact hj201 j174_s0 Im141 j130_J Xm142 Am143 j130_B j130_Q hf _ _ _ hR hS (lv_sub hl [1, 0, 2, 3, 4, 5] rfl)
              refine lv_if_ne (tgt := 157) hx hb dX1_nights_147 (by decide) (fun c144 => ?_) (fun c144 => ?_)
              · have hf := ite_f c144 hf
                refine n_aload hx hb dX1_nights_157 (lv_at hl 6 rfl) ?_
                try rw [ha105]
                refine n_geti (v := v111) hx hb hts hown hG hR gFi_X1_497_13 k106 ev111.symm dX1_nights_159 ?_
                refine lv_iconst (v := 1) hx hb dX1_nights_162 li_1 ?_
                refine lv_icmp_ne (tgt := 173) hx hb dX1_nights_163 (by decide) (fun c145 => ?_) (fun c145 => ?_)
                · have hf := ite_f c145 hf
                  refine lv_null hx hb dX1_nights_173 ?_
                  exact hj174 none hf _ _ _ hR hS (lv_sub hl [0, 2, 3, 4, 5, 6] rfl)
                · have hf := ite_t c145 hf
                  refine lv_aload_n hx hb dX1_nights_166 rfl (lv_at hl 0 rfl) ?_
                  obtain ⟨x146, ex146, hf⟩ := lt_some hf
                  refine g_getx hx hb hts hown hG hR gFx_X1_132_0 k1 dX1_nights_167 ?_
                  rw [← ex146]
                  refine lv_goto (tgt := 174) hx hb dX1_nights_170 (by decide) ?_
                  exact hj174 x146 hf _ _ _ hR hS (lv_sub hl [0, 2, 3, 4, 5, 6] rfl)
              · have hf := ite_t c144 hf
                refine lv_aload_n hx hb dX1_nights_150 rfl (lv_at hl 0 rfl) ?_
                obtain ⟨x147, ex147, hf⟩ := lt_some hf
                refine g_getx hx hb hts hown hG hR gFx_X1_122_0 k1 dX1_nights_151 ?_
                rw [← ex147]
                refine lv_goto (tgt := 174) hx hb dX1_nights_154 (by decide) ?_
                exact hj174 x147 hf _ _ _ hR hS (lv_sub hl [0, 2, 3, 4, 5, 6] rfl)
            · have hf := ite_f c113 hf
              refine lv_goto (tgt := 201) hx hb dX1_nights_139 (by decide) ?_
              exact hj201 w25_1 j130_I j130_J j130_X j130_A j130_B j130_Q hf _ _ _ hR hS (lv_sub hl [0, 1, 2, 3, 4, 5] rfl)
          refine lv_icmp_ne (tgt := 130) hx hb dX1_nights_114 (by decide) (fun c148 => ?_) (fun c148 => ?_)
          · have hf := ite_f c148 hf
            exact hj130 w25_I w25_J w25_X w25_A w25_B w25_Q hf _ _ _ hR hS (lv_sub hl [0, 1, 2, 3, 4, 5, 6] rfl)
          · have hf := ite_t c148 hf
            refine lv_aload_n hx hb dX1_nights_117 rfl (lv_at hl 0 rfl) ?_
            obtain ⟨x149, ex149, hf⟩ := lt_some hf
            refine g_getx hx hb hts hown hG hR gFx_X1_189_0 k1 dX1_nights_118 ?_
            rw [← ex149]
            refine n_aload hx hb dX1_nights_121 (lv_at hl 6 rfl) ?_
            try rw [ha105]
            obtain ⟨v150, ev150, hf⟩ := lt_some hf
            refine n_geti (v := v150) hx hb hts hown hG hR gFi_X1_500_13 k106 ev150.symm dX1_nights_123 ?_
            obtain ⟨a151, ha151, hf⟩ := bind_s hf
            try rw [ha151]
            obtain ⟨a153, ha153, hf⟩ := bind_s hf
            obtain ⟨g154, hf⟩ := gdp_some hf
            obtain ⟨g155, hf⟩ := gdp_some hf
            obtain ⟨r152, hr152, hf⟩ := bind_s hf
            refine g0_cV (rm := (0, 0)) (As := [.int v150]) (rest := []) ⟨hx, hb, hml, hown, hts⟩ hG hR hS (m12_give l G K w25_I w25_J w25_X w25_A w25_B w25_Q a151 a153 g154 g155 ha153 v150 (w25_I 305 a153) (w25_A (a151 + 1)) (w25_A (a151 + 4)) rfl rfl rfl r152 hr152) ⟨callB_of 1 hts (lw_meth q1390) rfl rfl rfl (hts _ q116) (hts _ q1387) (by decide +kernel) ⟨Nat.le_of_ble_eq_true rfl, Nat.le_of_ble_eq_true rfl⟩, hts _ q1388, hts _ q1389⟩ g154.1 rfl rfl hl.1 (Nat.le_of_ble_eq_true rfl) dX1_nights_126 ⟨Nat.zero_le _, Nat.zero_le _⟩ rfl (fun H locs hR hS => ?_)
            obtain ⟨Am156, eAm156, hf⟩ := lt_some hf
            rw [← eAm156] at hR
            refine lv_pop hx hb dX1_nights_129 rfl ?_
            exact hj130 w25_I w25_J w25_X Am156 w25_B w25_Q hf _ _ _ hR hS (lv_sub hl [0, 1, 2, 3, 4, 5, 6] rfl)
        refine lv_icmp_ne (tgt := 108) hx hb dX1_nights_99 (by decide) (fun c157 => ?_) (fun c157 => ?_)
        · have hf := ite_f c157 hf
          exact hj108 w25_3 hf _ _ _ hR hS (lv_sub hl [1, 2, 3, 4, 5, 6, 0] rfl)
        · have hf := ite_t c157 hf
          refine n_aload hx hb dX1_nights_102 (lv_at hl 0 rfl) ?_
          try rw [ha105]
          obtain ⟨v158, ev158, hf⟩ := lt_some hf
          refine n_geti (v := v158) hx hb hts hown hG hR gFi_X1_500_13 k106 ev158.symm dX1_nights_104 ?_
          refine lv_istore_n (lv' := [(3, .int v158), (6, va_rf x104), (0, .ref o), (1, va_rf w25_1), (2, .int w23_2), (4, .int w25_4), (5, .int w23_5)]) hx hb dX1_nights_107 rfl hl (by decide) (by first | rfl | simp [va_rf_c]) (fun ls hl => ?_)
          exact hj108 v158 hf _ _ _ hR hS (lv_sub hl [2, 3, 4, 0, 5, 6, 1] rfl)
noncomputable def w1_night (zz : Nat) (adS : Nat → Nat) (o : Nat) (p1 : Int32) (p2 : Int32) (K : gK) (I : gI) (J : gJ) (X : gX) (A : gI) (B : gJ) (Q : gX) (n : Nat) : Option (Int32 × gK × gI × gJ × gX × gI × gJ × gX × Nat) :=
  (f1_isIn p1 (0 : Int32) (59 : Int32)).bind fun r1 =>
  if r1 = 0 then
    some ((-1 : Int32), K, I, J, X, A, B, Q, n)
  else
    (f1_isIn p2 (0 : Int32) (3 : Int32)).bind fun r3 =>
    if r3 = 0 then
      some ((-1 : Int32), K, I, J, X, A, B, Q, n)
    else
      gdp (K o = some (.inl 0)) <|
      (w1_nights zz adS o K I J X A B Q n).bind fun r6 =>
      if p2 = 0 then
        gdp (r6.1 o = some (.inl 0)) <|
        lt (r6.2.2.2.1 46 o) fun x29 =>
        (x29).bind fun a30 =>
        (alen r6.1 a30 0).bind fun n31 =>
        gdp (inb p1 n31) <|
        lt (r6.2.2.2.2.1 a30 p1.toNatClampNeg) fun v33 =>
        some (v33, r6.1, r6.2.1, r6.2.2.1, r6.2.2.2.1, r6.2.2.2.2.1, r6.2.2.2.2.2.1, r6.2.2.2.2.2.2.1, r6.2.2.2.2.2.2.2)
      else
        if p2 = (1 : Int32) then
          gdp (r6.1 o = some (.inl 0)) <|
          lt (r6.2.2.2.1 47 o) fun x23 =>
          (x23).bind fun a24 =>
          (alen r6.1 a24 0).bind fun n25 =>
          gdp (inb p1 n25) <|
          lt (r6.2.2.2.2.1 a24 p1.toNatClampNeg) fun v27 =>
          some (v27, r6.1, r6.2.1, r6.2.2.1, r6.2.2.2.1, r6.2.2.2.2.1, r6.2.2.2.2.2.1, r6.2.2.2.2.2.2.1, r6.2.2.2.2.2.2.2)
        else
          if p2 = (2 : Int32) then
            gdp (r6.1 o = some (.inl 0)) <|
            lt (r6.2.2.2.1 48 o) fun x17 =>
            (x17).bind fun a18 =>
            (alen r6.1 a18 0).bind fun n19 =>
            gdp (inb p1 n19) <|
            lt (r6.2.2.2.2.1 a18 p1.toNatClampNeg) fun v21 =>
            some (v21, r6.1, r6.2.1, r6.2.2.1, r6.2.2.2.1, r6.2.2.2.2.1, r6.2.2.2.2.2.1, r6.2.2.2.2.2.2.1, r6.2.2.2.2.2.2.2)
          else
            gdp (r6.1 o = some (.inl 0)) <|
            lt (r6.2.2.2.1 49 o) fun x11 =>
            (x11).bind fun a12 =>
            (alen r6.1 a12 0).bind fun n13 =>
            gdp (inb p1 n13) <|
            lt (r6.2.2.2.2.1 a12 p1.toNatClampNeg) fun v15 =>
            some (v15, r6.1, r6.2.1, r6.2.2.1, r6.2.2.2.1, r6.2.2.2.2.1, r6.2.2.2.2.2.1, r6.2.2.2.2.2.2.1, r6.2.2.2.2.2.2.2)
set_option maxHeartbeats 4000000 in
theorem m1_night_w (l : Launch) (G : gG) (K : gK) (I : gI) (J : gJ) (X : gX) (A : gI) (B : gJ) (Q : gX) (n : Nat) (o : Nat) (p1 : Int32) (p2 : Int32) (out : Int32 × gK × gI × gJ × gX × gI × gJ × gX × Nat) (hf : w1_night G.2.2 (aK G) o p1 p2 K I J X A B Q n = some out) : GMetX l yX1_night cX1_night 3 (some .int) (7) (164) G [.ref o, .int p1, .int p2] K I J X A B Q (.inr (some (.int out.1))) out.2.1 out.2.2.1 out.2.2.2.1 out.2.2.2.2.1 out.2.2.2.2.2.1 out.2.2.2.2.2.2.1 out.2.2.2.2.2.2.2.1 0 0 := by
  refine GMetX.of (y := yX1_night) rfl (Nat.le_of_ble_eq_true rfl) (la := [(0, .ref o), (1, .int p1), (2, .int p2)]) rfl ?_
  intro p e s m below meth c ls hx hb hr hml hlocks hts hown hname ht hG hR hW hl
  have hown : s.vm.findClass RX1 = some m.cls := hown
  have hS : va_S (gA G) s.heap s.heap [] := va_S.rf
  have hend : ∀ (pc : Nat) (H : Heap) (locs : List Loc) (ls : Array Slot), decode cX1_night pc = .ok (.ireturn, 1) → RS G out.2.1 out.2.2.1 out.2.2.2.1 out.2.2.2.2.1 out.2.2.2.2.2.1 out.2.2.2.2.2.2.1 out.2.2.2.2.2.2.2.1 H → va_S (gA G) s.heap H locs → W p l e ({ frames := 7, cells := 0, slots := 0, locals := 164 } : Room) s m ([.ref o, .int p1, .int p2] : List Value).toArray below meth c H locs 0 0 (vx_MQ below (xQ G (.inr (some (.int out.1))) out.2.1 out.2.2.1 out.2.2.2.1 out.2.2.2.2.1 out.2.2.2.2.2.1 out.2.2.2.2.2.2.1 out.2.2.2.2.2.2.2.1) (xX G (.inr (some (.int out.1))) out.2.1 out.2.2.1 out.2.2.2.1 out.2.2.2.2.1 out.2.2.2.2.2.1 out.2.2.2.2.2.2.1 out.2.2.2.2.2.2.2.1) ([.ref o, .int p1, .int p2] : List Value).toArray s 0 0 (gA G)) (F0 m pc ls [.int out.1]) := fun pc H locs ls hd hR hS => x_nret hx hb hr rfl hlocks hG hR hS rfl hd
  generalize vx_MQ below (xQ G (.inr (some (.int out.1))) out.2.1 out.2.2.1 out.2.2.2.1 out.2.2.2.2.1 out.2.2.2.2.2.1 out.2.2.2.2.2.2.1 out.2.2.2.2.2.2.2.1) (xX G (.inr (some (.int out.1))) out.2.1 out.2.2.1 out.2.2.2.1 out.2.2.2.2.1 out.2.2.2.2.2.1 out.2.2.2.2.2.2.1 out.2.2.2.2.2.2.2.1) ([.ref o, .int p1, .int p2] : List Value).toArray s 0 0 (gA G) = Z at hend ⊢
  generalize ([.ref o, .int p1, .int p2] : List Value).toArray = args at hts hend ⊢
  unfold w1_night at hf
  refine lv_iload_n hx hb dX1_night_0 rfl (lv_at hl 1 rfl) ?_
  refine lv_iconst (v := 0) hx hb dX1_night_1 li_0 ?_
  refine lv_bipush (v := 59) hx hb dX1_night_2 lb_59 ?_
  obtain ⟨r1, hr1, hf⟩ := bind_s hf
  refine g0_cS (rm := (0, 0)) (As := [.int p1, .int (0 : Int32), .int (59 : Int32)]) (rest := []) ⟨hx, hb, hml, hown, hts⟩ hG hR hS (m1_isIn l G K I J X A B Q p1 (0 : Int32) (59 : Int32) r1 hr1) ⟨callB_of 3 hts (lw_meth q862) rfl rfl rfl (hts _ q103) (hts _ q1121) (by decide +kernel) ⟨Nat.le_of_ble_eq_true rfl, Nat.le_of_ble_eq_true rfl⟩, hts _ q861⟩ rfl hl.1 (Nat.le_of_ble_eq_true rfl) dX1_night_4 ⟨Nat.zero_le _, Nat.zero_le _⟩ rfl (fun H locs hR hS => ?_)
  refine lv_if_eq (tgt := 19) hx hb dX1_night_7 (by decide) (fun c2 => ?_) (fun c2 => ?_)
  · have hf := ite_t c2 hf
    refine lv_iconst (v := -1) hx hb dX1_night_19 li_m1 ?_
    obtain rfl := some_i hf
    exact hend _ _ _ _ dX1_night_20 hR hS
  · have hf := ite_f c2 hf
    refine lv_iload_n hx hb dX1_night_10 rfl (lv_at hl 2 rfl) ?_
    refine lv_iconst (v := 0) hx hb dX1_night_11 li_0 ?_
    refine lv_iconst (v := 3) hx hb dX1_night_12 li_3 ?_
    obtain ⟨r3, hr3, hf⟩ := bind_s hf
    refine g0_cS (rm := (0, 0)) (As := [.int p2, .int (0 : Int32), .int (3 : Int32)]) (rest := []) ⟨hx, hb, hml, hown, hts⟩ hG hR hS (m1_isIn l G K I J X A B Q p2 (0 : Int32) (3 : Int32) r3 hr3) ⟨callB_of 3 hts (lw_meth q862) rfl rfl rfl (hts _ q103) (hts _ q1121) (by decide +kernel) ⟨Nat.le_of_ble_eq_true rfl, Nat.le_of_ble_eq_true rfl⟩, hts _ q861⟩ rfl hl.1 (Nat.le_of_ble_eq_true rfl) dX1_night_13 ⟨Nat.zero_le _, Nat.zero_le _⟩ rfl (fun H locs hR hS => ?_)
    refine lv_if_ne (tgt := 21) hx hb dX1_night_16 (by decide) (fun c4 => ?_) (fun c4 => ?_)
    · have hf := ite_f c4 hf
      refine lv_aload_n hx hb dX1_night_21 rfl (lv_at hl 0 rfl) ?_
      obtain ⟨k5, hf⟩ := gdp_some hf
      obtain ⟨r6, hr6, hf⟩ := bind_s hf
      refine x0_gor (vx_runV (As := []) (rest := []) (b := o) ⟨hx, hb, hml, hown, hts⟩ (m1_nights_w l G K I J X A B Q n o r6 hr6) ⟨callB_of 0 hts (lw_meth q1402) rfl rfl rfl (hts _ q103) (hts _ q1399) (by decide +kernel) ⟨Nat.le_of_ble_eq_true rfl, Nat.le_of_ble_eq_true rfl⟩, hts _ q1401, hts _ qs29⟩ (x_preV hG hR hW hS k5 rfl) rfl rfl hl.1 rfl (lv_room (Nat.le_of_ble_eq_true rfl)) dX1_night_22 ⟨Nat.zero_le _, Nat.zero_le _⟩) hS (fun H locs hR hS => ?_)
      refine lv_iload_n hx hb dX1_night_25 rfl (lv_at hl 2 rfl) ?_
      refine lv_if_ne (tgt := 38) hx hb dX1_night_26 (by decide) (fun c7 => ?_) (fun c7 => ?_)
      · have hf := ite_f c7 hf
        refine lv_iload_n hx hb dX1_night_38 rfl (lv_at hl 2 rfl) ?_
        refine lv_iconst (v := 1) hx hb dX1_night_39 li_1 ?_
        refine lv_icmp_ne (tgt := 52) hx hb dX1_night_40 (by decide) (fun c8 => ?_) (fun c8 => ?_)
        · have hf := ite_f c8 hf
          refine lv_iload_n hx hb dX1_night_52 rfl (lv_at hl 2 rfl) ?_
          refine lv_iconst (v := 2) hx hb dX1_night_53 li_2 ?_
          refine lv_icmp_ne (tgt := 66) hx hb dX1_night_54 (by decide) (fun c9 => ?_) (fun c9 => ?_)
          · have hf := ite_f c9 hf
            refine lv_aload_n hx hb dX1_night_66 rfl (lv_at hl 0 rfl) ?_
            obtain ⟨k10, hf⟩ := gdp_some hf
            obtain ⟨x11, ex11, hf⟩ := lt_some hf
            refine g_getx hx hb hts hown hG hR gFx_X1_200_0 k10 dX1_night_67 ?_
            rw [← ex11]
            refine lv_iload_n hx hb dX1_night_70 rfl (lv_at hl 1 rfl) ?_
            obtain ⟨a12, ha12, hf⟩ := bind_s hf
            try rw [ha12]
            obtain ⟨n13, hn13, hf⟩ := bind_s hf
            have kn13 := alen_k hn13
            obtain ⟨c14, hf⟩ := gdp_some hf
            obtain ⟨v15, ev15, hf⟩ := lt_some hf
            refine g_iald hx hb hG hR kn13 c14 dX1_night_71 ?_
            rw [← ev15]
            obtain rfl := some_i hf
            exact hend _ _ _ _ dX1_night_72 hR hS
          · have hf := ite_t c9 hf
            refine lv_aload_n hx hb dX1_night_57 rfl (lv_at hl 0 rfl) ?_
            obtain ⟨k16, hf⟩ := gdp_some hf
            obtain ⟨x17, ex17, hf⟩ := lt_some hf
            refine g_getx hx hb hts hown hG hR gFx_X1_197_0 k16 dX1_night_58 ?_
            rw [← ex17]
            refine lv_iload_n hx hb dX1_night_61 rfl (lv_at hl 1 rfl) ?_
            obtain ⟨a18, ha18, hf⟩ := bind_s hf
            try rw [ha18]
            obtain ⟨n19, hn19, hf⟩ := bind_s hf
            have kn19 := alen_k hn19
            obtain ⟨c20, hf⟩ := gdp_some hf
            obtain ⟨v21, ev21, hf⟩ := lt_some hf
            refine g_iald hx hb hG hR kn19 c20 dX1_night_62 ?_
            rw [← ev21]
            refine lv_goto (tgt := 72) hx hb dX1_night_63 (by decide) ?_
            obtain rfl := some_i hf
            exact hend _ _ _ _ dX1_night_72 hR hS
        · have hf := ite_t c8 hf
          refine lv_aload_n hx hb dX1_night_43 rfl (lv_at hl 0 rfl) ?_
          obtain ⟨k22, hf⟩ := gdp_some hf
          obtain ⟨x23, ex23, hf⟩ := lt_some hf
          refine g_getx hx hb hts hown hG hR gFx_X1_195_0 k22 dX1_night_44 ?_
          rw [← ex23]
          refine lv_iload_n hx hb dX1_night_47 rfl (lv_at hl 1 rfl) ?_
          obtain ⟨a24, ha24, hf⟩ := bind_s hf
          try rw [ha24]
          obtain ⟨n25, hn25, hf⟩ := bind_s hf
          have kn25 := alen_k hn25
          obtain ⟨c26, hf⟩ := gdp_some hf
          obtain ⟨v27, ev27, hf⟩ := lt_some hf
          refine g_iald hx hb hG hR kn25 c26 dX1_night_48 ?_
          rw [← ev27]
          refine lv_goto (tgt := 72) hx hb dX1_night_49 (by decide) ?_
          obtain rfl := some_i hf
          exact hend _ _ _ _ dX1_night_72 hR hS
      · have hf := ite_t c7 hf
        refine lv_aload_n hx hb dX1_night_29 rfl (lv_at hl 0 rfl) ?_
        obtain ⟨k28, hf⟩ := gdp_some hf
        obtain ⟨x29, ex29, hf⟩ := lt_some hf
        refine g_getx hx hb hts hown hG hR gFx_X1_192_0 k28 dX1_night_30 ?_
        rw [← ex29]
        refine lv_iload_n hx hb dX1_night_33 rfl (lv_at hl 1 rfl) ?_
        obtain ⟨a30, ha30, hf⟩ := bind_s hf
        try rw [ha30]
        obtain ⟨n31, hn31, hf⟩ := bind_s hf
        have kn31 := alen_k hn31
        obtain ⟨c32, hf⟩ := gdp_some hf
        obtain ⟨v33, ev33, hf⟩ := lt_some hf
        refine g_iald hx hb hG hR kn31 c32 dX1_night_34 ?_
        rw [← ev33]
        refine lv_goto (tgt := 72) hx hb dX1_night_35 (by decide) ?_
        obtain rfl := some_i hf
        exact hend _ _ _ _ dX1_night_72 hR hS
    · have hf := ite_t c4 hf
      refine lv_iconst (v := -1) hx hb dX1_night_19 li_m1 ?_
      obtain rfl := some_i hf
      exact hend _ _ _ _ dX1_night_20 hR hS
noncomputable def w1_said_e9_0 (p1 : Int32) (x9_0 : Int32 × gK × gI × gJ × gX × gI × gJ × gX × Nat × Nat × Nat) : Option (Int32 × gK × gI × gJ × gX × gI × gJ × gX × Nat) :=
  if p1 = (-1 : Int32) then
    gdp (x9_0.2.2.2.2.2.2.2.2.2.1 ≤ 0 ∧ x9_0.2.2.2.2.2.2.2.2.2.2 ≤ 0) <|
    some (x9_0.1, x9_0.2.1, x9_0.2.2.1, x9_0.2.2.2.1, x9_0.2.2.2.2.1, x9_0.2.2.2.2.2.1, x9_0.2.2.2.2.2.2.1, x9_0.2.2.2.2.2.2.2.1, x9_0.2.2.2.2.2.2.2.2.1)
  else
    gdp (x9_0.2.2.2.2.2.2.2.2.2.1 ≤ 0 ∧ x9_0.2.2.2.2.2.2.2.2.2.2 ≤ 0) <|
    some ((-1 : Int32), x9_0.2.1, x9_0.2.2.1, x9_0.2.2.2.1, x9_0.2.2.2.2.1, x9_0.2.2.2.2.2.1, x9_0.2.2.2.2.2.2.1, x9_0.2.2.2.2.2.2.2.1, x9_0.2.2.2.2.2.2.2.2.1)

noncomputable def w1_said_e9_1 (x9_1 : Int32 × gK × gI × gJ × gX × gI × gJ × gX × Nat × Nat × Nat) : Option (Int32 × gK × gI × gJ × gX × gI × gJ × gX × Nat) :=
  gdp (x9_1.2.2.2.2.2.2.2.2.2.1 ≤ 0 ∧ x9_1.2.2.2.2.2.2.2.2.2.2 ≤ 0) <|
  some (x9_1.1, x9_1.2.1, x9_1.2.2.1, x9_1.2.2.2.1, x9_1.2.2.2.2.1, x9_1.2.2.2.2.2.1, x9_1.2.2.2.2.2.2.1, x9_1.2.2.2.2.2.2.2.1, x9_1.2.2.2.2.2.2.2.2.1)

noncomputable def w1_said_j59 (w9_3 : Int32) (w9_u : Nat) (w9_v : Nat) (r22 : Int32 × gK × gI × gJ × gX × gI × gJ × gX × Nat) (j59_2 : Int32) : Option ((Int32 × Int32 × gK × gI × gJ × gX × gI × gJ × gX × Nat × Nat × Nat) ⊕ ((Int32 × gK × gI × gJ × gX × gI × gJ × gX × Nat × Nat × Nat) ⊕ (Int32 × gK × gI × gJ × gX × gI × gJ × gX × Nat × Nat × Nat))) :=
  lt (w9_3 + (1 : Int32)) fun v24 =>
  some (.inl (j59_2, v24, r22.2.1, r22.2.2.1, r22.2.2.2.1, r22.2.2.2.2.1, r22.2.2.2.2.2.1, r22.2.2.2.2.2.2.1, r22.2.2.2.2.2.2.2.1, r22.2.2.2.2.2.2.2.2, w9_u, w9_v))

noncomputable def w1_said_j59a (w9_3 : Int32) (w9_u : Nat) (w9_v : Nat) (r29 : Int32 × gK × gI × gJ × gX × gI × gJ × gX × Nat) (j59_2 : Int32) : Option ((Int32 × Int32 × gK × gI × gJ × gX × gI × gJ × gX × Nat × Nat × Nat) ⊕ ((Int32 × gK × gI × gJ × gX × gI × gJ × gX × Nat × Nat × Nat) ⊕ (Int32 × gK × gI × gJ × gX × gI × gJ × gX × Nat × Nat × Nat))) :=
  lt (w9_3 + (1 : Int32)) fun v31 =>
  some (.inl (j59_2, v31, r29.2.1, r29.2.2.1, r29.2.2.2.1, r29.2.2.2.2.1, r29.2.2.2.2.2.1, r29.2.2.2.2.2.2.1, r29.2.2.2.2.2.2.2.1, r29.2.2.2.2.2.2.2.2, w9_u, w9_v))

noncomputable def w1_said_j59b (w9_3 : Int32) (w9_u : Nat) (w9_v : Nat) (r36 : Int32 × gK × gI × gJ × gX × gI × gJ × gX × Nat) (j59_2 : Int32) : Option ((Int32 × Int32 × gK × gI × gJ × gX × gI × gJ × gX × Nat × Nat × Nat) ⊕ ((Int32 × gK × gI × gJ × gX × gI × gJ × gX × Nat × Nat × Nat) ⊕ (Int32 × gK × gI × gJ × gX × gI × gJ × gX × Nat × Nat × Nat))) :=
  lt (w9_3 + (1 : Int32)) fun v38 =>
  some (.inl (j59_2, v38, r36.2.1, r36.2.2.1, r36.2.2.2.1, r36.2.2.2.2.1, r36.2.2.2.2.2.1, r36.2.2.2.2.2.2.1, r36.2.2.2.2.2.2.2.1, r36.2.2.2.2.2.2.2.2, w9_u, w9_v))

noncomputable def w1_said_j59c (w9_3 : Int32) (w9_u : Nat) (w9_v : Nat) (r43 : Int32 × gK × gI × gJ × gX × gI × gJ × gX × Nat) (j59_2 : Int32) : Option ((Int32 × Int32 × gK × gI × gJ × gX × gI × gJ × gX × Nat × Nat × Nat) ⊕ ((Int32 × gK × gI × gJ × gX × gI × gJ × gX × Nat × Nat × Nat) ⊕ (Int32 × gK × gI × gJ × gX × gI × gJ × gX × Nat × Nat × Nat))) :=
  lt (w9_3 + (1 : Int32)) fun v45 =>
  some (.inl (j59_2, v45, r43.2.1, r43.2.2.1, r43.2.2.2.1, r43.2.2.2.2.1, r43.2.2.2.2.2.1, r43.2.2.2.2.2.2.1, r43.2.2.2.2.2.2.2.1, r43.2.2.2.2.2.2.2.2, w9_u, w9_v))

noncomputable def w1_said_j59d (w9_3 : Int32) (w9_u : Nat) (w9_v : Nat) (r50 : Int32 × gK × gI × gJ × gX × gI × gJ × gX × Nat) (j59_2 : Int32) : Option ((Int32 × Int32 × gK × gI × gJ × gX × gI × gJ × gX × Nat × Nat × Nat) ⊕ ((Int32 × gK × gI × gJ × gX × gI × gJ × gX × Nat × Nat × Nat) ⊕ (Int32 × gK × gI × gJ × gX × gI × gJ × gX × Nat × Nat × Nat))) :=
  lt (w9_3 + (1 : Int32)) fun v52 =>
  some (.inl (j59_2, v52, r50.2.1, r50.2.2.1, r50.2.2.2.1, r50.2.2.2.2.1, r50.2.2.2.2.2.1, r50.2.2.2.2.2.2.1, r50.2.2.2.2.2.2.2.1, r50.2.2.2.2.2.2.2.2, w9_u, w9_v))

noncomputable def w1_said_s9 (zz : Nat) (adS : Nat → Nat) (o : Nat) (p1 : Int32) (w9_2 : Int32) (w9_3 : Int32) (w9_K : gK) (w9_I : gI) (w9_J : gJ) (w9_X : gX) (w9_A : gI) (w9_B : gJ) (w9_Q : gX) (w9_n : Nat) (w9_u : Nat) (w9_v : Nat) : Option ((Int32 × Int32 × gK × gI × gJ × gX × gI × gJ × gX × Nat × Nat × Nat) ⊕ ((Int32 × gK × gI × gJ × gX × gI × gJ × gX × Nat × Nat × Nat) ⊕ (Int32 × gK × gI × gJ × gX × gI × gJ × gX × Nat × Nat × Nat))) :=
  if (60 : Int32) ≤ w9_3 then
    some (.inr (.inl (w9_2, w9_K, w9_I, w9_J, w9_X, w9_A, w9_B, w9_Q, w9_n, w9_u, w9_v)))
  else
    gdp (w9_K o = some (.inl 0)) <|
    lt (w9_X 9 o) fun x16 =>
    (x16).bind fun a17 =>
    gdp (w9_K a17 = some (.inl 2)) <|
    lt (w9_X 202 a17) fun x19 =>
    (x19).bind fun a20 =>
    if w9_K a20 = some (.inl 14) then
      gdp (w9_u ≤ 0 ∧ w9_v ≤ 0) <|
      (w18_is 40 zz adS a20 o w9_3 w9_K w9_I w9_J w9_X w9_A w9_B w9_Q w9_n).bind fun r22 =>
      if r22.1 = 0 then
        w1_said_j59 w9_3 w9_u w9_v r22 w9_2
      else
        if w9_2 = p1 then
          some (.inr (.inr (w9_3, r22.2.1, r22.2.2.1, r22.2.2.2.1, r22.2.2.2.2.1, r22.2.2.2.2.2.1, r22.2.2.2.2.2.2.1, r22.2.2.2.2.2.2.2.1, r22.2.2.2.2.2.2.2.2, w9_u, w9_v)))
        else
          lt (w9_2 + (1 : Int32)) fun v27 =>
          w1_said_j59 w9_3 w9_u w9_v r22 v27
    else
    if w9_K a20 = some (.inl 15) then
      gdp (w9_u ≤ 0 ∧ w9_v ≤ 0) <|
      (w19_is 40 zz adS a20 o w9_3 w9_K w9_I w9_J w9_X w9_A w9_B w9_Q w9_n).bind fun r29 =>
      if r29.1 = 0 then
        w1_said_j59a w9_3 w9_u w9_v r29 w9_2
      else
        if w9_2 = p1 then
          some (.inr (.inr (w9_3, r29.2.1, r29.2.2.1, r29.2.2.2.1, r29.2.2.2.2.1, r29.2.2.2.2.2.1, r29.2.2.2.2.2.2.1, r29.2.2.2.2.2.2.2.1, r29.2.2.2.2.2.2.2.2, w9_u, w9_v)))
        else
          lt (w9_2 + (1 : Int32)) fun v34 =>
          w1_said_j59a w9_3 w9_u w9_v r29 v34
    else
    if w9_K a20 = some (.inl 16) then
      gdp (w9_u ≤ 0 ∧ w9_v ≤ 0) <|
      (w20_is 40 zz adS a20 o w9_3 w9_K w9_I w9_J w9_X w9_A w9_B w9_Q w9_n).bind fun r36 =>
      if r36.1 = 0 then
        w1_said_j59b w9_3 w9_u w9_v r36 w9_2
      else
        if w9_2 = p1 then
          some (.inr (.inr (w9_3, r36.2.1, r36.2.2.1, r36.2.2.2.1, r36.2.2.2.2.1, r36.2.2.2.2.2.1, r36.2.2.2.2.2.2.1, r36.2.2.2.2.2.2.2.1, r36.2.2.2.2.2.2.2.2, w9_u, w9_v)))
        else
          lt (w9_2 + (1 : Int32)) fun v41 =>
          w1_said_j59b w9_3 w9_u w9_v r36 v41
    else
    if w9_K a20 = some (.inl 17) then
      gdp (w9_u ≤ 0 ∧ w9_v ≤ 0) <|
      (w21_is 40 zz adS a20 o w9_3 w9_K w9_I w9_J w9_X w9_A w9_B w9_Q w9_n).bind fun r43 =>
      if r43.1 = 0 then
        w1_said_j59c w9_3 w9_u w9_v r43 w9_2
      else
        if w9_2 = p1 then
          some (.inr (.inr (w9_3, r43.2.1, r43.2.2.1, r43.2.2.2.1, r43.2.2.2.2.1, r43.2.2.2.2.2.1, r43.2.2.2.2.2.2.1, r43.2.2.2.2.2.2.2.1, r43.2.2.2.2.2.2.2.2, w9_u, w9_v)))
        else
          lt (w9_2 + (1 : Int32)) fun v48 =>
          w1_said_j59c w9_3 w9_u w9_v r43 v48
    else
    gdp (w9_K a20 = some (.inl 18)) <|
    gdp (w9_u ≤ 0 ∧ w9_v ≤ 0) <|
    (w22_is 40 zz adS a20 o w9_3 w9_K w9_I w9_J w9_X w9_A w9_B w9_Q w9_n).bind fun r50 =>
    if r50.1 = 0 then
      w1_said_j59d w9_3 w9_u w9_v r50 w9_2
    else
      if w9_2 = p1 then
        some (.inr (.inr (w9_3, r50.2.1, r50.2.2.1, r50.2.2.2.1, r50.2.2.2.2.1, r50.2.2.2.2.2.1, r50.2.2.2.2.2.2.1, r50.2.2.2.2.2.2.2.1, r50.2.2.2.2.2.2.2.2, w9_u, w9_v)))
      else
        lt (w9_2 + (1 : Int32)) fun v55 =>
        w1_said_j59d w9_3 w9_u w9_v r50 v55

noncomputable def w1_said (zz : Nat) (adS : Nat → Nat) (o : Nat) (p1 : Int32) (K : gK) (I : gI) (J : gJ) (X : gX) (A : gI) (B : gJ) (Q : gX) (n : Nat) : Option (Int32 × gK × gI × gJ × gX × gI × gJ × gX × Nat) :=
  gdp (K o = some (.inl 0)) <|
  lt (X 9 o) fun x2 =>
  (x2).bind fun a3 =>
  gdp (K a3 = some (.inl 2)) <|
  lt (X 202 a3) fun x5 =>
  if x5 = none then
    some ((-1 : Int32), K, I, J, X, A, B, Q, n)
  else
    if (-1 : Int32) ≤ p1 then
      (w1_nights zz adS o K I J X A B Q n).bind fun r8 =>
      (whl (fun (s9 : Int32 × Int32 × gK × gI × gJ × gX × gI × gJ × gX × Nat × Nat × Nat) => w1_said_s9 zz adS o p1 s9.1 s9.2.1 s9.2.2.1 s9.2.2.2.1 s9.2.2.2.2.1 s9.2.2.2.2.2.1 s9.2.2.2.2.2.2.1 s9.2.2.2.2.2.2.2.1 s9.2.2.2.2.2.2.2.2.1 s9.2.2.2.2.2.2.2.2.2.1 s9.2.2.2.2.2.2.2.2.2.2.1 s9.2.2.2.2.2.2.2.2.2.2.2) FU ((0 : Int32), (0 : Int32), r8.1, r8.2.1, r8.2.2.1, r8.2.2.2.1, r8.2.2.2.2.1, r8.2.2.2.2.2.1, r8.2.2.2.2.2.2.1, r8.2.2.2.2.2.2.2, 0, 0)).bind fun rl9 =>
      Sum.elim (w1_said_e9_0 p1) (w1_said_e9_1) rl9
    else
      some ((-1 : Int32), K, I, J, X, A, B, Q, n)
set_option maxHeartbeats 4000000 in
theorem m1_said_w (l : Launch) (G : gG) (K : gK) (I : gI) (J : gJ) (X : gX) (A : gI) (B : gJ) (Q : gX) (n : Nat) (o : Nat) (p1 : Int32) (out : Int32 × gK × gI × gJ × gX × gI × gJ × gX × Nat) (hf : w1_said G.2.2 (aK G) o p1 K I J X A B Q n = some out) : GMetX l yX1_said cX1_said 4 (some .int) (42) (965) G [.ref o, .int p1] K I J X A B Q (.inr (some (.int out.1))) out.2.1 out.2.2.1 out.2.2.2.1 out.2.2.2.2.1 out.2.2.2.2.2.1 out.2.2.2.2.2.2.1 out.2.2.2.2.2.2.2.1 0 0 := by
  refine GMetX.of (y := yX1_said) rfl (Nat.le_of_ble_eq_true rfl) (la := [(0, .ref o), (1, .int p1)]) rfl ?_
  intro p e s m below meth c ls hx hb hr hml hlocks hts hown hname ht hG hR hW hl
  have hown : s.vm.findClass RX1 = some m.cls := hown
  have hS : va_S (gA G) s.heap s.heap [] := va_S.rf
  have hend : ∀ (pc : Nat) (H : Heap) (locs : List Loc) (ls : Array Slot), decode cX1_said pc = .ok (.ireturn, 1) → RS G out.2.1 out.2.2.1 out.2.2.2.1 out.2.2.2.2.1 out.2.2.2.2.2.1 out.2.2.2.2.2.2.1 out.2.2.2.2.2.2.2.1 H → va_S (gA G) s.heap H locs → W p l e ({ frames := 42, cells := 0, slots := 0, locals := 965 } : Room) s m ([.ref o, .int p1] : List Value).toArray below meth c H locs 0 0 (vx_MQ below (xQ G (.inr (some (.int out.1))) out.2.1 out.2.2.1 out.2.2.2.1 out.2.2.2.2.1 out.2.2.2.2.2.1 out.2.2.2.2.2.2.1 out.2.2.2.2.2.2.2.1) (xX G (.inr (some (.int out.1))) out.2.1 out.2.2.1 out.2.2.2.1 out.2.2.2.2.1 out.2.2.2.2.2.1 out.2.2.2.2.2.2.1 out.2.2.2.2.2.2.2.1) ([.ref o, .int p1] : List Value).toArray s 0 0 (gA G)) (F0 m pc ls [.int out.1]) := fun pc H locs ls hd hR hS => x_nret hx hb hr rfl hlocks hG hR hS rfl hd
  generalize vx_MQ below (xQ G (.inr (some (.int out.1))) out.2.1 out.2.2.1 out.2.2.2.1 out.2.2.2.2.1 out.2.2.2.2.2.1 out.2.2.2.2.2.2.1 out.2.2.2.2.2.2.2.1) (xX G (.inr (some (.int out.1))) out.2.1 out.2.2.1 out.2.2.2.1 out.2.2.2.2.1 out.2.2.2.2.2.1 out.2.2.2.2.2.2.1 out.2.2.2.2.2.2.2.1) ([.ref o, .int p1] : List Value).toArray s 0 0 (gA G) = Z at hend ⊢
  generalize ([.ref o, .int p1] : List Value).toArray = args at hts hend ⊢
  unfold w1_said at hf
  refine lv_aload_n hx hb dX1_said_0 rfl (lv_at hl 0 rfl) ?_
  obtain ⟨k1, hf⟩ := gdp_some hf
  obtain ⟨x2, ex2, hf⟩ := lt_some hf
  refine g_getx hx hb hts hown hG hR gFx_X1_96_0 k1 dX1_said_1 ?_
  rw [← ex2]
  obtain ⟨a3, ha3, hf⟩ := bind_s hf
  try rw [ha3]
  obtain ⟨k4, hf⟩ := gdp_some hf
  obtain ⟨x5, ex5, hf⟩ := lt_some hf
  refine g_getx hx hb hts hown hG hR gFx_X1_252_2 k4 dX1_said_4 ?_
  rw [← ex5]
  by_cases c6 : x5 = none
  · have hf := ite_t c6 hf
    refine n_isnone c6 ?_
    refine lv_ifnullN (tgt := 15) hx hb dX1_said_7 (by decide) ?_
    refine lv_iconst (v := -1) hx hb dX1_said_15 li_m1 ?_
    obtain rfl := some_i hf
    exact hend _ _ _ _ dX1_said_16 hR hS
  · have hf := ite_f c6 hf
    obtain ⟨yc6, hc6⟩ := Option.ne_none_iff_exists'.mp c6
    refine n_some hc6 ?_
    refine lv_ifnull hx hb dX1_said_7 ?_
    refine lv_iload_n hx hb dX1_said_10 rfl (lv_at hl 1 rfl) ?_
    refine lv_iconst (v := -1) hx hb dX1_said_11 li_m1 ?_
    refine lv_icmp_ge (tgt := 17) hx hb dX1_said_12 (by decide) (fun c7 => ?_) (fun c7 => ?_)
    · have hf := ite_t c7 hf
      refine lv_aload_n hx hb dX1_said_17 rfl (lv_at hl 0 rfl) ?_
      obtain ⟨r8, hr8, hf⟩ := bind_s hf
      refine x0_gor (vx_runV (As := []) (rest := []) (b := o) ⟨hx, hb, hml, hown, hts⟩ (m1_nights_w l G K I J X A B Q n o r8 hr8) ⟨callB_of 0 hts (lw_meth q1402) rfl rfl rfl (hts _ q103) (hts _ q1399) (by decide +kernel) ⟨Nat.le_of_ble_eq_true rfl, Nat.le_of_ble_eq_true rfl⟩, hts _ q1401, hts _ qs29⟩ (x_preV hG hR hW hS k1 rfl) rfl rfl hl.1 rfl (lv_room (Nat.le_of_ble_eq_true rfl)) dX1_said_18 ⟨Nat.zero_le _, Nat.zero_le _⟩) hS (fun H locs hR hS => ?_)
      refine lv_iconst (v := 0) hx hb dX1_said_21 li_0 ?_
      refine lv_istore_n (lv' := [(2, .int (0 : Int32)), (0, .ref o), (1, .int p1)]) hx hb dX1_said_22 rfl hl (by decide) rfl (fun ls hl => ?_)
      refine lv_iconst (v := 0) hx hb dX1_said_23 li_0 ?_
      refine lv_istore_n (lv' := [(3, .int (0 : Int32)), (2, .int (0 : Int32)), (0, .ref o), (1, .int p1)]) hx hb dX1_said_24 rfl hl (by decide) rfl (fun ls hl => ?_)
      obtain ⟨rl9, hw9, hfo9⟩ := bind_s hf
      have hx9_0 : ∀ (x9_0 : Int32 × gK × gI × gJ × gX × gI × gJ × gX × Nat × Nat × Nat), w1_said_e9_0 p1 x9_0 = some out → ∀ (H : Heap) (locs : List Loc) (ls : Array Slot), RS G x9_0.2.1 x9_0.2.2.1 x9_0.2.2.2.1 x9_0.2.2.2.2.1 x9_0.2.2.2.2.2.1 x9_0.2.2.2.2.2.2.1 x9_0.2.2.2.2.2.2.2.1 H → va_S (gA G) s.heap H locs → lv_has ls 4 [(0, .ref o), (1, .int p1), (2, .int x9_0.1)] → W p l e ({ frames := 42, cells := 0, slots := 0, locals := 965 } : Room) s m args below meth c H locs x9_0.2.2.2.2.2.2.2.2.2.1 x9_0.2.2.2.2.2.2.2.2.2.2 Z (F0 m 65 ls []) := by
        intro x9_0 hf H locs ls hR hS hl
        unfold w1_said_e9_0 at hf
        refine lv_iload_n hx hb dX1_said_65 rfl (lv_at hl 1 rfl) ?_
        refine lv_iconst (v := -1) hx hb dX1_said_66 li_m1 ?_
        refine lv_icmp_ne (tgt := 74) hx hb dX1_said_67 (by decide) (fun c10 => ?_) (fun c10 => ?_)
        · have hf := ite_f c10 hf
          refine lv_iconst (v := -1) hx hb dX1_said_74 li_m1 ?_
          obtain ⟨c11, hf⟩ := gdp_some hf
          refine W.widen c11.1 c11.2 ?_
          obtain rfl := some_i hf
          exact hend _ _ _ _ dX1_said_75 hR hS
        · have hf := ite_t c10 hf
          refine lv_iload_n hx hb dX1_said_70 rfl (lv_at hl 2 rfl) ?_
          refine lv_goto (tgt := 75) hx hb dX1_said_71 (by decide) ?_
          obtain ⟨c12, hf⟩ := gdp_some hf
          refine W.widen c12.1 c12.2 ?_
          obtain rfl := some_i hf
          exact hend _ _ _ _ dX1_said_75 hR hS
      have hx9_1 : ∀ (x9_1 : Int32 × gK × gI × gJ × gX × gI × gJ × gX × Nat × Nat × Nat), w1_said_e9_1 x9_1 = some out → ∀ (H : Heap) (locs : List Loc) (ls : Array Slot), RS G x9_1.2.1 x9_1.2.2.1 x9_1.2.2.2.1 x9_1.2.2.2.2.1 x9_1.2.2.2.2.2.1 x9_1.2.2.2.2.2.2.1 x9_1.2.2.2.2.2.2.2.1 H → va_S (gA G) s.heap H locs → lv_has ls 4 [(0, .ref o), (3, .int x9_1.1)] → W p l e ({ frames := 42, cells := 0, slots := 0, locals := 965 } : Room) s m args below meth c H locs x9_1.2.2.2.2.2.2.2.2.2.1 x9_1.2.2.2.2.2.2.2.2.2.2 Z (F0 m 54 ls []) := by
        intro x9_1 hf H locs ls hR hS hl
        unfold w1_said_e9_1 at hf
        refine lv_iload_n hx hb dX1_said_54 rfl (lv_at hl 1 rfl) ?_
        obtain ⟨c13, hf⟩ := gdp_some hf
        refine W.widen c13.1 c13.2 ?_
        obtain rfl := some_i hf
        exact hend _ _ _ _ dX1_said_55 hR hS
      refine whl_walk (P := fun (s9 : Int32 × Int32 × gK × gI × gJ × gX × gI × gJ × gX × Nat × Nat × Nat) => ∀ (H : Heap) (locs : List Loc) (ls : Array Slot), RS G s9.2.2.1 s9.2.2.2.1 s9.2.2.2.2.1 s9.2.2.2.2.2.1 s9.2.2.2.2.2.2.1 s9.2.2.2.2.2.2.2.1 s9.2.2.2.2.2.2.2.2.1 H → va_S (gA G) s.heap H locs → lv_has ls 4 [(0, .ref o), (1, .int p1), (2, .int s9.1), (3, .int s9.2.1)] → W p l e ({ frames := 42, cells := 0, slots := 0, locals := 965 } : Room) s m args below meth c H locs s9.2.2.2.2.2.2.2.2.2.2.1 s9.2.2.2.2.2.2.2.2.2.2.2 Z (F0 m 25 ls [])) (r := rl9) ?_ FU _ hw9 _ _ _ hR hS (lv_sub hl [2, 3, 1, 0] rfl)
      clear hR hS hl hf
      intro s9 o9 hf hk9 H locs ls hR hS hl
      obtain ⟨w9_2, w9_3, w9_K, w9_I, w9_J, w9_X, w9_A, w9_B, w9_Q, w9_n, w9_u, w9_v⟩ := s9
      have hf : w1_said_s9 G.2.2 (aK G) o p1 w9_2 w9_3 w9_K w9_I w9_J w9_X w9_A w9_B w9_Q w9_n w9_u w9_v = some o9 := hf
      have hR : RS G w9_K w9_I w9_J w9_X w9_A w9_B w9_Q H := hR
      have hl : lv_has ls 4 [(0, .ref o), (1, .int p1), (2, .int w9_2), (3, .int w9_3)] := hl
      unfold w1_said_s9 at hf
      refine lv_iload_n hx hb dX1_said_25 rfl (lv_at hl 3 rfl) ?_
      refine lv_bipush (v := 60) hx hb dX1_said_26 lb_60 ?_
      refine lv_icmp_ge (tgt := 65) hx hb dX1_said_28 (by decide) (fun c14 => ?_) (fun c14 => ?_)
      · have hf := ite_t c14 hf
        obtain rfl := some_i hf
        replace hk9 : _ = rl9 := hk9
        subst hk9
        exact hx9_0 (w9_2, w9_K, w9_I, w9_J, w9_X, w9_A, w9_B, w9_Q, w9_n, w9_u, w9_v) (el_l hfo9) _ _ _ hR hS (lv_sub hl [0, 1, 2] rfl)
      · have hf := ite_f c14 hf
        refine lv_aload_n hx hb dX1_said_31 rfl (lv_at hl 0 rfl) ?_
        obtain ⟨k15, hf⟩ := gdp_some hf
        obtain ⟨x16, ex16, hf⟩ := lt_some hf
        refine g_getx hx hb hts hown hG hR gFx_X1_96_0 k15 dX1_said_32 ?_
        rw [← ex16]
        obtain ⟨a17, ha17, hf⟩ := bind_s hf
        try rw [ha17]
        obtain ⟨k18, hf⟩ := gdp_some hf
        obtain ⟨x19, ex19, hf⟩ := lt_some hf
        refine g_getx hx hb hts hown hG hR gFx_X1_252_2 k18 dX1_said_35 ?_
        rw [← ex19]
        refine lv_aload_n hx hb dX1_said_38 rfl (lv_at hl 0 rfl) ?_
        refine lv_iload_n hx hb dX1_said_39 rfl (lv_at hl 3 rfl) ?_
        obtain ⟨a20, ha20, hf⟩ := bind_s hf
        try rw [ha20]
        by_cases k21 : w9_K a20 = some (.inl 14)
        · have hf := ite_t k21 hf
          obtain ⟨c23, hf⟩ := gdp_some hf
          obtain ⟨r22, hr22, hf⟩ := bind_s hf
          refine x0_gor (vx_runU (As := [.ref o, .int w9_3]) (rest := []) (b := a20) ⟨hx, hb, hml, hown, hts⟩ (m18_is_w l 40 G w9_K w9_I w9_J w9_X w9_A w9_B w9_Q w9_n a20 o w9_3 r22 hr22) (va_cwA (x := ⟨"PailRow$Cond", "is", "(LPailRow;I)Z"⟩) (owner := "PailRow$Cond") 2 hts gu_X1_520_14 rfl rfl rfl (hG.2 _ q1522 rfl) ⟨by decide +kernel, by decide +kernel, by decide +kernel⟩ ⟨Nat.le_of_ble_eq_true rfl, Nat.le_of_ble_eq_true rfl⟩) (x_preV hG hR hW hS k21 rfl) rfl rfl hl.1 rfl (lv_room (Nat.le_of_ble_eq_true rfl)) dX1_said_40 ⟨c23.1, c23.2⟩) hS (fun H locs hR hS => ?_)
          have hj59 : ∀ (j59_2 : Int32), w1_said_j59 w9_3 w9_u w9_v r22 j59_2 = some o9 → ∀ (H : Heap) (locs : List Loc) (ls : Array Slot), RS G r22.2.1 r22.2.2.1 r22.2.2.2.1 r22.2.2.2.2.1 r22.2.2.2.2.2.1 r22.2.2.2.2.2.2.1 r22.2.2.2.2.2.2.2.1 H → va_S (gA G) s.heap H locs → lv_has ls 4 [(0, .ref o), (1, .int p1), (2, .int j59_2), (3, .int w9_3)] → W p l e ({ frames := 42, cells := 0, slots := 0, locals := 965 } : Room) s m args below meth c H locs w9_u w9_v Z (F0 m 59 ls []) := by
            intro j59_2 hf H locs ls hR hS hl
            unfold w1_said_j59 at hf
            obtain ⟨v24, ev24, hf⟩ := lt_some hf
            refine lv_iinc (k := 3) (v := v24) (lv' := [(3, .int v24), (0, .ref o), (1, .int p1), (2, .int j59_2)]) hx hb dX1_said_59 hl rfl (by rw [ev24]; rfl) (by decide) rfl (fun ls hl => ?_)
            refine lv_goto (tgt := 25) hx hb dX1_said_62 (by decide) ?_
            obtain rfl := some_i hf
            exact hk9 _ _ _ hR hS (lv_sub hl [1, 2, 3, 0] rfl)
          refine lv_if_ne (tgt := 49) hx hb dX1_said_43 (by decide) (fun c25 => ?_) (fun c25 => ?_)
          · have hf := ite_f c25 hf
            refine lv_iload_n hx hb dX1_said_49 rfl (lv_at hl 2 rfl) ?_
            refine lv_iload_n hx hb dX1_said_50 rfl (lv_at hl 1 rfl) ?_
            refine lv_icmp_ne (tgt := 56) hx hb dX1_said_51 (by decide) (fun c26 => ?_) (fun c26 => ?_)
            · have hf := ite_f c26 hf
              obtain ⟨v27, ev27, hf⟩ := lt_some hf
              refine lv_iinc (k := 2) (v := v27) (lv' := [(2, .int v27), (0, .ref o), (1, .int p1), (3, .int w9_3)]) hx hb dX1_said_56 hl rfl (by rw [ev27]; rfl) (by decide) rfl (fun ls hl => ?_)
              exact hj59 v27 hf _ _ _ hR hS (lv_sub hl [1, 2, 0, 3] rfl)
            · have hf := ite_t c26 hf
              obtain rfl := some_i hf
              replace hk9 : _ = rl9 := hk9
              subst hk9
              exact hx9_1 (w9_3, r22.2.1, r22.2.2.1, r22.2.2.2.1, r22.2.2.2.2.1, r22.2.2.2.2.2.1, r22.2.2.2.2.2.2.1, r22.2.2.2.2.2.2.2.1, r22.2.2.2.2.2.2.2.2, w9_u, w9_v) (el_r hfo9) _ _ _ hR hS (lv_sub hl [0, 3] rfl)
          · have hf := ite_t c25 hf
            refine lv_goto (tgt := 59) hx hb dX1_said_46 (by decide) ?_
            exact hj59 w9_2 hf _ _ _ hR hS (lv_sub hl [0, 1, 2, 3] rfl)
        have hf := ite_f k21 hf
        by_cases k28 : w9_K a20 = some (.inl 15)
        · have hf := ite_t k28 hf
          obtain ⟨c30, hf⟩ := gdp_some hf
          obtain ⟨r29, hr29, hf⟩ := bind_s hf
          refine x0_gor (vx_runU (As := [.ref o, .int w9_3]) (rest := []) (b := a20) ⟨hx, hb, hml, hown, hts⟩ (m19_is_w l 40 G w9_K w9_I w9_J w9_X w9_A w9_B w9_Q w9_n a20 o w9_3 r29 hr29) (va_cwA (x := ⟨"PailRow$Cond", "is", "(LPailRow;I)Z"⟩) (owner := "PailRow$Cond") 2 hts gu_X1_520_15 rfl rfl rfl (hG.2 _ q1522 rfl) ⟨by decide +kernel, by decide +kernel, by decide +kernel⟩ ⟨Nat.le_of_ble_eq_true rfl, Nat.le_of_ble_eq_true rfl⟩) (x_preV hG hR hW hS k28 rfl) rfl rfl hl.1 rfl (lv_room (Nat.le_of_ble_eq_true rfl)) dX1_said_40 ⟨c30.1, c30.2⟩) hS (fun H locs hR hS => ?_)
          have hj59 : ∀ (j59_2 : Int32), w1_said_j59a w9_3 w9_u w9_v r29 j59_2 = some o9 → ∀ (H : Heap) (locs : List Loc) (ls : Array Slot), RS G r29.2.1 r29.2.2.1 r29.2.2.2.1 r29.2.2.2.2.1 r29.2.2.2.2.2.1 r29.2.2.2.2.2.2.1 r29.2.2.2.2.2.2.2.1 H → va_S (gA G) s.heap H locs → lv_has ls 4 [(0, .ref o), (1, .int p1), (2, .int j59_2), (3, .int w9_3)] → W p l e ({ frames := 42, cells := 0, slots := 0, locals := 965 } : Room) s m args below meth c H locs w9_u w9_v Z (F0 m 59 ls []) := by
            intro j59_2 hf H locs ls hR hS hl
            unfold w1_said_j59a at hf
            obtain ⟨v31, ev31, hf⟩ := lt_some hf
            refine lv_iinc (k := 3) (v := v31) (lv' := [(3, .int v31), (0, .ref o), (1, .int p1), (2, .int j59_2)]) hx hb dX1_said_59 hl rfl (by rw [ev31]; rfl) (by decide) rfl (fun ls hl => ?_)
            refine lv_goto (tgt := 25) hx hb dX1_said_62 (by decide) ?_
            obtain rfl := some_i hf
            exact hk9 _ _ _ hR hS (lv_sub hl [1, 2, 3, 0] rfl)
          refine lv_if_ne (tgt := 49) hx hb dX1_said_43 (by decide) (fun c32 => ?_) (fun c32 => ?_)
          · have hf := ite_f c32 hf
            refine lv_iload_n hx hb dX1_said_49 rfl (lv_at hl 2 rfl) ?_
            refine lv_iload_n hx hb dX1_said_50 rfl (lv_at hl 1 rfl) ?_
            refine lv_icmp_ne (tgt := 56) hx hb dX1_said_51 (by decide) (fun c33 => ?_) (fun c33 => ?_)
            · have hf := ite_f c33 hf
              obtain ⟨v34, ev34, hf⟩ := lt_some hf
              refine lv_iinc (k := 2) (v := v34) (lv' := [(2, .int v34), (0, .ref o), (1, .int p1), (3, .int w9_3)]) hx hb dX1_said_56 hl rfl (by rw [ev34]; rfl) (by decide) rfl (fun ls hl => ?_)
              exact hj59 v34 hf _ _ _ hR hS (lv_sub hl [1, 2, 0, 3] rfl)
            · have hf := ite_t c33 hf
              obtain rfl := some_i hf
              replace hk9 : _ = rl9 := hk9
              subst hk9
              exact hx9_1 (w9_3, r29.2.1, r29.2.2.1, r29.2.2.2.1, r29.2.2.2.2.1, r29.2.2.2.2.2.1, r29.2.2.2.2.2.2.1, r29.2.2.2.2.2.2.2.1, r29.2.2.2.2.2.2.2.2, w9_u, w9_v) (el_r hfo9) _ _ _ hR hS (lv_sub hl [0, 3] rfl)
          · have hf := ite_t c32 hf
            refine lv_goto (tgt := 59) hx hb dX1_said_46 (by decide) ?_
            exact hj59 w9_2 hf _ _ _ hR hS (lv_sub hl [0, 1, 2, 3] rfl)
        have hf := ite_f k28 hf
        by_cases k35 : w9_K a20 = some (.inl 16)
        · have hf := ite_t k35 hf
          obtain ⟨c37, hf⟩ := gdp_some hf
          obtain ⟨r36, hr36, hf⟩ := bind_s hf
          refine x0_gor (vx_runU (As := [.ref o, .int w9_3]) (rest := []) (b := a20) ⟨hx, hb, hml, hown, hts⟩ (m20_is_w l 40 G w9_K w9_I w9_J w9_X w9_A w9_B w9_Q w9_n a20 o w9_3 r36 hr36) (va_cwA (x := ⟨"PailRow$Cond", "is", "(LPailRow;I)Z"⟩) (owner := "PailRow$Cond") 2 hts gu_X1_520_16 rfl rfl rfl (hG.2 _ q1522 rfl) ⟨by decide +kernel, by decide +kernel, by decide +kernel⟩ ⟨Nat.le_of_ble_eq_true rfl, Nat.le_of_ble_eq_true rfl⟩) (x_preV hG hR hW hS k35 rfl) rfl rfl hl.1 rfl (lv_room (Nat.le_of_ble_eq_true rfl)) dX1_said_40 ⟨c37.1, c37.2⟩) hS (fun H locs hR hS => ?_)
          have hj59 : ∀ (j59_2 : Int32), w1_said_j59b w9_3 w9_u w9_v r36 j59_2 = some o9 → ∀ (H : Heap) (locs : List Loc) (ls : Array Slot), RS G r36.2.1 r36.2.2.1 r36.2.2.2.1 r36.2.2.2.2.1 r36.2.2.2.2.2.1 r36.2.2.2.2.2.2.1 r36.2.2.2.2.2.2.2.1 H → va_S (gA G) s.heap H locs → lv_has ls 4 [(0, .ref o), (1, .int p1), (2, .int j59_2), (3, .int w9_3)] → W p l e ({ frames := 42, cells := 0, slots := 0, locals := 965 } : Room) s m args below meth c H locs w9_u w9_v Z (F0 m 59 ls []) := by
            intro j59_2 hf H locs ls hR hS hl
            unfold w1_said_j59b at hf
            obtain ⟨v38, ev38, hf⟩ := lt_some hf
            refine lv_iinc (k := 3) (v := v38) (lv' := [(3, .int v38), (0, .ref o), (1, .int p1), (2, .int j59_2)]) hx hb dX1_said_59 hl rfl (by rw [ev38]; rfl) (by decide) rfl (fun ls hl => ?_)
            refine lv_goto (tgt := 25) hx hb dX1_said_62 (by decide) ?_
            obtain rfl := some_i hf
            exact hk9 _ _ _ hR hS (lv_sub hl [1, 2, 3, 0] rfl)
          refine lv_if_ne (tgt := 49) hx hb dX1_said_43 (by decide) (fun c39 => ?_) (fun c39 => ?_)
          · have hf := ite_f c39 hf
            refine lv_iload_n hx hb dX1_said_49 rfl (lv_at hl 2 rfl) ?_
            refine lv_iload_n hx hb dX1_said_50 rfl (lv_at hl 1 rfl) ?_
            refine lv_icmp_ne (tgt := 56) hx hb dX1_said_51 (by decide) (fun c40 => ?_) (fun c40 => ?_)
            · have hf := ite_f c40 hf
              obtain ⟨v41, ev41, hf⟩ := lt_some hf
              refine lv_iinc (k := 2) (v := v41) (lv' := [(2, .int v41), (0, .ref o), (1, .int p1), (3, .int w9_3)]) hx hb dX1_said_56 hl rfl (by rw [ev41]; rfl) (by decide) rfl (fun ls hl => ?_)
              exact hj59 v41 hf _ _ _ hR hS (lv_sub hl [1, 2, 0, 3] rfl)
            · have hf := ite_t c40 hf
              obtain rfl := some_i hf
              replace hk9 : _ = rl9 := hk9
              subst hk9
              exact hx9_1 (w9_3, r36.2.1, r36.2.2.1, r36.2.2.2.1, r36.2.2.2.2.1, r36.2.2.2.2.2.1, r36.2.2.2.2.2.2.1, r36.2.2.2.2.2.2.2.1, r36.2.2.2.2.2.2.2.2, w9_u, w9_v) (el_r hfo9) _ _ _ hR hS (lv_sub hl [0, 3] rfl)
          · have hf := ite_t c39 hf
            refine lv_goto (tgt := 59) hx hb dX1_said_46 (by decide) ?_
            exact hj59 w9_2 hf _ _ _ hR hS (lv_sub hl [0, 1, 2, 3] rfl)
        have hf := ite_f k35 hf
        by_cases k42 : w9_K a20 = some (.inl 17)
        · have hf := ite_t k42 hf
          obtain ⟨c44, hf⟩ := gdp_some hf
          obtain ⟨r43, hr43, hf⟩ := bind_s hf
          refine x0_gor (vx_runU (As := [.ref o, .int w9_3]) (rest := []) (b := a20) ⟨hx, hb, hml, hown, hts⟩ (m21_is_w l 40 G w9_K w9_I w9_J w9_X w9_A w9_B w9_Q w9_n a20 o w9_3 r43 hr43) (va_cwA (x := ⟨"PailRow$Cond", "is", "(LPailRow;I)Z"⟩) (owner := "PailRow$Cond") 2 hts gu_X1_520_17 rfl rfl rfl (hG.2 _ q1522 rfl) ⟨by decide +kernel, by decide +kernel, by decide +kernel⟩ ⟨Nat.le_of_ble_eq_true rfl, Nat.le_of_ble_eq_true rfl⟩) (x_preV hG hR hW hS k42 rfl) rfl rfl hl.1 rfl (lv_room (Nat.le_of_ble_eq_true rfl)) dX1_said_40 ⟨c44.1, c44.2⟩) hS (fun H locs hR hS => ?_)
          have hj59 : ∀ (j59_2 : Int32), w1_said_j59c w9_3 w9_u w9_v r43 j59_2 = some o9 → ∀ (H : Heap) (locs : List Loc) (ls : Array Slot), RS G r43.2.1 r43.2.2.1 r43.2.2.2.1 r43.2.2.2.2.1 r43.2.2.2.2.2.1 r43.2.2.2.2.2.2.1 r43.2.2.2.2.2.2.2.1 H → va_S (gA G) s.heap H locs → lv_has ls 4 [(0, .ref o), (1, .int p1), (2, .int j59_2), (3, .int w9_3)] → W p l e ({ frames := 42, cells := 0, slots := 0, locals := 965 } : Room) s m args below meth c H locs w9_u w9_v Z (F0 m 59 ls []) := by
            intro j59_2 hf H locs ls hR hS hl
            unfold w1_said_j59c at hf
            obtain ⟨v45, ev45, hf⟩ := lt_some hf
            refine lv_iinc (k := 3) (v := v45) (lv' := [(3, .int v45), (0, .ref o), (1, .int p1), (2, .int j59_2)]) hx hb dX1_said_59 hl rfl (by rw [ev45]; rfl) (by decide) rfl (fun ls hl => ?_)
            refine lv_goto (tgt := 25) hx hb dX1_said_62 (by decide) ?_
            obtain rfl := some_i hf
            exact hk9 _ _ _ hR hS (lv_sub hl [1, 2, 3, 0] rfl)
          refine lv_if_ne (tgt := 49) hx hb dX1_said_43 (by decide) (fun c46 => ?_) (fun c46 => ?_)
          · have hf := ite_f c46 hf
            refine lv_iload_n hx hb dX1_said_49 rfl (lv_at hl 2 rfl) ?_
            refine lv_iload_n hx hb dX1_said_50 rfl (lv_at hl 1 rfl) ?_
            refine lv_icmp_ne (tgt := 56) hx hb dX1_said_51 (by decide) (fun c47 => ?_) (fun c47 => ?_)
            · have hf := ite_f c47 hf
              obtain ⟨v48, ev48, hf⟩ := lt_some hf
              refine lv_iinc (k := 2) (v := v48) (lv' := [(2, .int v48), (0, .ref o), (1, .int p1), (3, .int w9_3)]) hx hb dX1_said_56 hl rfl (by rw [ev48]; rfl) (by decide) rfl (fun ls hl => ?_)
              exact hj59 v48 hf _ _ _ hR hS (lv_sub hl [1, 2, 0, 3] rfl)
            · have hf := ite_t c47 hf
              obtain rfl := some_i hf
              replace hk9 : _ = rl9 := hk9
              subst hk9
              exact hx9_1 (w9_3, r43.2.1, r43.2.2.1, r43.2.2.2.1, r43.2.2.2.2.1, r43.2.2.2.2.2.1, r43.2.2.2.2.2.2.1, r43.2.2.2.2.2.2.2.1, r43.2.2.2.2.2.2.2.2, w9_u, w9_v) (el_r hfo9) _ _ _ hR hS (lv_sub hl [0, 3] rfl)
          · have hf := ite_t c46 hf
            refine lv_goto (tgt := 59) hx hb dX1_said_46 (by decide) ?_
            exact hj59 w9_2 hf _ _ _ hR hS (lv_sub hl [0, 1, 2, 3] rfl)
        have hf := ite_f k42 hf
        obtain ⟨k49, hf⟩ := gdp_some hf
        obtain ⟨c51, hf⟩ := gdp_some hf
        obtain ⟨r50, hr50, hf⟩ := bind_s hf
        refine x0_gor (vx_runU (As := [.ref o, .int w9_3]) (rest := []) (b := a20) ⟨hx, hb, hml, hown, hts⟩ (m22_is_w l 40 G w9_K w9_I w9_J w9_X w9_A w9_B w9_Q w9_n a20 o w9_3 r50 hr50) (va_cwA (x := ⟨"PailRow$Cond", "is", "(LPailRow;I)Z"⟩) (owner := "PailRow$Cond") 2 hts gu_X1_520_18 rfl rfl rfl (hG.2 _ q1522 rfl) ⟨by decide +kernel, by decide +kernel, by decide +kernel⟩ ⟨Nat.le_of_ble_eq_true rfl, Nat.le_of_ble_eq_true rfl⟩) (x_preV hG hR hW hS k49 rfl) rfl rfl hl.1 rfl (lv_room (Nat.le_of_ble_eq_true rfl)) dX1_said_40 ⟨c51.1, c51.2⟩) hS (fun H locs hR hS => ?_)
        have hj59 : ∀ (j59_2 : Int32), w1_said_j59d w9_3 w9_u w9_v r50 j59_2 = some o9 → ∀ (H : Heap) (locs : List Loc) (ls : Array Slot), RS G r50.2.1 r50.2.2.1 r50.2.2.2.1 r50.2.2.2.2.1 r50.2.2.2.2.2.1 r50.2.2.2.2.2.2.1 r50.2.2.2.2.2.2.2.1 H → va_S (gA G) s.heap H locs → lv_has ls 4 [(0, .ref o), (1, .int p1), (2, .int j59_2), (3, .int w9_3)] → W p l e ({ frames := 42, cells := 0, slots := 0, locals := 965 } : Room) s m args below meth c H locs w9_u w9_v Z (F0 m 59 ls []) := by
          intro j59_2 hf H locs ls hR hS hl
          unfold w1_said_j59d at hf
          obtain ⟨v52, ev52, hf⟩ := lt_some hf
          refine lv_iinc (k := 3) (v := v52) (lv' := [(3, .int v52), (0, .ref o), (1, .int p1), (2, .int j59_2)]) hx hb dX1_said_59 hl rfl (by rw [ev52]; rfl) (by decide) rfl (fun ls hl => ?_)
          refine lv_goto (tgt := 25) hx hb dX1_said_62 (by decide) ?_
          obtain rfl := some_i hf
          exact hk9 _ _ _ hR hS (lv_sub hl [1, 2, 3, 0] rfl)
        refine lv_if_ne (tgt := 49) hx hb dX1_said_43 (by decide) (fun c53 => ?_) (fun c53 => ?_)
        · have hf := ite_f c53 hf
          refine lv_iload_n hx hb dX1_said_49 rfl (lv_at hl 2 rfl) ?_
          refine lv_iload_n hx hb dX1_said_50 rfl (lv_at hl 1 rfl) ?_
          refine lv_icmp_ne (tgt := 56) hx hb dX1_said_51 (by decide) (fun c54 => ?_) (fun c54 => ?_)
          · have hf := ite_f c54 hf
            obtain ⟨v55, ev55, hf⟩ := lt_some hf
            refine lv_iinc (k := 2) (v := v55) (lv' := [(2, .int v55), (0, .ref o), (1, .int p1), (3, .int w9_3)]) hx hb dX1_said_56 hl rfl (by rw [ev55]; rfl) (by decide) rfl (fun ls hl => ?_)
            exact hj59 v55 hf _ _ _ hR hS (lv_sub hl [1, 2, 0, 3] rfl)
          · have hf := ite_t c54 hf
            obtain rfl := some_i hf
            replace hk9 : _ = rl9 := hk9
            subst hk9
            exact hx9_1 (w9_3, r50.2.1, r50.2.2.1, r50.2.2.2.1, r50.2.2.2.2.1, r50.2.2.2.2.2.1, r50.2.2.2.2.2.2.1, r50.2.2.2.2.2.2.2.1, r50.2.2.2.2.2.2.2.2, w9_u, w9_v) (el_r hfo9) _ _ _ hR hS (lv_sub hl [0, 3] rfl)
        · have hf := ite_t c53 hf
          refine lv_goto (tgt := 59) hx hb dX1_said_46 (by decide) ?_
          exact hj59 w9_2 hf _ _ _ hR hS (lv_sub hl [0, 1, 2, 3] rfl)
    · have hf := ite_f c7 hf
      refine lv_iconst (v := -1) hx hb dX1_said_15 li_m1 ?_
      obtain rfl := some_i hf
      exact hend _ _ _ _ dX1_said_16 hR hS
noncomputable def w1_fireAt (zz : Nat) (adS : Nat → Nat) (o : Nat) (p1 : Int32) (p2 : Int32) (p3 : Int32) (K : gK) (I : gI) (J : gJ) (X : gX) (A : gI) (B : gJ) (Q : gX) (n : Nat) : Option (Int32 × gK × gI × gJ × gX × gI × gJ × gX × Nat) :=
  gdp (K o = some (.inl 0)) <|
  lt (I 38 o) fun v2 =>
  if v2 = 0 then
    some ((-1 : Int32), K, I, J, X, A, B, Q, n)
  else
    lt (X 35 o) fun x4 =>
    (x4).bind fun a5 =>
    gdp (K a5 = some (.inl 9)) <|
    lt (X 904 a5) fun x7 =>
    (x7).bind fun a8 =>
    gdp (Sh K X a8 3 rows3) <|
    (f4_isCell p1 p2 (I 304 a8) (I 305 a8)).bind fun r9 =>
    if r9 = 0 then
      some ((-1 : Int32), K, I, J, X, A, B, Q, n)
    else
      lt ((8 : Int32) * p2) fun v12 =>
      lt (v12 + p1) fun v13 =>
      if p3 = 0 then
        lt (X 900 a5) fun x28 =>
        (x28).bind fun a29 =>
        (alen K a29 0).bind fun n30 =>
        gdp (inb v13 n30) <|
        lt (A a29 v13.toNatClampNeg) fun v32 =>
        some (v32, K, I, J, X, A, B, Q, n)
      else
        if p3 = (1 : Int32) then
          lt (X 903 a5) fun x22 =>
          (x22).bind fun a23 =>
          (alen K a23 1).bind fun n24 =>
          gdp (inb v13 n24) <|
          lt (A a23 v13.toNatClampNeg) fun v26 =>
          if v26 = 0 then
            some ((0 : Int32), K, I, J, X, A, B, Q, n)
          else
            some ((1 : Int32), K, I, J, X, A, B, Q, n)
        else
          if p3 = (2 : Int32) then
            lt (X 901 a5) fun x17 =>
            (x17).bind fun a18 =>
            (alen K a18 0).bind fun n19 =>
            gdp (inb v13 n19) <|
            lt (A a18 v13.toNatClampNeg) fun v21 =>
            some (v21, K, I, J, X, A, B, Q, n)
          else
            some ((-1 : Int32), K, I, J, X, A, B, Q, n)
set_option maxHeartbeats 4000000 in
theorem m1_fireAt_w (l : Launch) (G : gG) (K : gK) (I : gI) (J : gJ) (X : gX) (A : gI) (B : gJ) (Q : gX) (n : Nat) (o : Nat) (p1 : Int32) (p2 : Int32) (p3 : Int32) (out : Int32 × gK × gI × gJ × gX × gI × gJ × gX × Nat) (hf : w1_fireAt G.2.2 (aK G) o p1 p2 p3 K I J X A B Q n = some out) : GMetX l yX1_fireAt cX1_fireAt 5 (some .int) (2) (44) G [.ref o, .int p1, .int p2, .int p3] K I J X A B Q (.inr (some (.int out.1))) out.2.1 out.2.2.1 out.2.2.2.1 out.2.2.2.2.1 out.2.2.2.2.2.1 out.2.2.2.2.2.2.1 out.2.2.2.2.2.2.2.1 0 0 := by
  refine GMetX.of (y := yX1_fireAt) rfl (Nat.le_of_ble_eq_true rfl) (la := [(0, .ref o), (1, .int p1), (2, .int p2), (3, .int p3)]) rfl ?_
  intro p e s m below meth c ls hx hb hr hml hlocks hts hown hname ht hG hR hW hl
  have hown : s.vm.findClass RX1 = some m.cls := hown
  have hS : va_S (gA G) s.heap s.heap [] := va_S.rf
  have hend : ∀ (pc : Nat) (H : Heap) (locs : List Loc) (ls : Array Slot), decode cX1_fireAt pc = .ok (.ireturn, 1) → RS G out.2.1 out.2.2.1 out.2.2.2.1 out.2.2.2.2.1 out.2.2.2.2.2.1 out.2.2.2.2.2.2.1 out.2.2.2.2.2.2.2.1 H → va_S (gA G) s.heap H locs → W p l e ({ frames := 2, cells := 0, slots := 0, locals := 44 } : Room) s m ([.ref o, .int p1, .int p2, .int p3] : List Value).toArray below meth c H locs 0 0 (vx_MQ below (xQ G (.inr (some (.int out.1))) out.2.1 out.2.2.1 out.2.2.2.1 out.2.2.2.2.1 out.2.2.2.2.2.1 out.2.2.2.2.2.2.1 out.2.2.2.2.2.2.2.1) (xX G (.inr (some (.int out.1))) out.2.1 out.2.2.1 out.2.2.2.1 out.2.2.2.2.1 out.2.2.2.2.2.1 out.2.2.2.2.2.2.1 out.2.2.2.2.2.2.2.1) ([.ref o, .int p1, .int p2, .int p3] : List Value).toArray s 0 0 (gA G)) (F0 m pc ls [.int out.1]) := fun pc H locs ls hd hR hS => x_nret hx hb hr rfl hlocks hG hR hS rfl hd
  generalize vx_MQ below (xQ G (.inr (some (.int out.1))) out.2.1 out.2.2.1 out.2.2.2.1 out.2.2.2.2.1 out.2.2.2.2.2.1 out.2.2.2.2.2.2.1 out.2.2.2.2.2.2.2.1) (xX G (.inr (some (.int out.1))) out.2.1 out.2.2.1 out.2.2.2.1 out.2.2.2.2.1 out.2.2.2.2.2.1 out.2.2.2.2.2.2.1 out.2.2.2.2.2.2.2.1) ([.ref o, .int p1, .int p2, .int p3] : List Value).toArray s 0 0 (gA G) = Z at hend ⊢
  generalize ([.ref o, .int p1, .int p2, .int p3] : List Value).toArray = args at hts hend ⊢
  unfold w1_fireAt at hf
  refine lv_aload_n hx hb dX1_fireAt_0 rfl (lv_at hl 0 rfl) ?_
  obtain ⟨k1, hf⟩ := gdp_some hf
  obtain ⟨v2, ev2, hf⟩ := lt_some hf
  refine n_geti (v := v2) hx hb hts hown hG hR gFi_X1_442_0 k1 ev2.symm dX1_fireAt_1 ?_
  refine lv_if_eq (tgt := 22) hx hb dX1_fireAt_4 (by decide) (fun c3 => ?_) (fun c3 => ?_)
  · have hf := ite_t c3 hf
    refine lv_iconst (v := -1) hx hb dX1_fireAt_22 li_m1 ?_
    obtain rfl := some_i hf
    exact hend _ _ _ _ dX1_fireAt_23 hR hS
  · have hf := ite_f c3 hf
    refine lv_aload_n hx hb dX1_fireAt_7 rfl (lv_at hl 0 rfl) ?_
    obtain ⟨x4, ex4, hf⟩ := lt_some hf
    refine g_getx hx hb hts hown hG hR gFx_X1_169_0 k1 dX1_fireAt_8 ?_
    rw [← ex4]
    obtain ⟨a5, ha5, hf⟩ := bind_s hf
    try rw [ha5]
    obtain ⟨k6, hf⟩ := gdp_some hf
    obtain ⟨x7, ex7, hf⟩ := lt_some hf
    refine g_getx hx hb hts hown hG hR gFx_X1_461_9 k6 dX1_fireAt_11 ?_
    rw [← ex7]
    refine lv_iload_n hx hb dX1_fireAt_14 rfl (lv_at hl 1 rfl) ?_
    refine lv_iload_n hx hb dX1_fireAt_15 rfl (lv_at hl 2 rfl) ?_
    obtain ⟨a8, ha8, hf⟩ := bind_s hf
    try rw [ha8]
    obtain ⟨g10, hf⟩ := gdp_some hf
    obtain ⟨r9, hr9, hf⟩ := bind_s hf
    refine g0_cV (rm := (1, 22)) (As := [.int p1, .int p2]) (rest := []) ⟨hx, hb, hml, hown, hts⟩ hG hR hS (m4_isCell l G K I J X A B Q a8 g10 p1 p2 (I 304 a8) (I 305 a8) rfl rfl r9 hr9) ⟨callB_of 2 hts (lw_meth q1109) rfl rfl rfl (hts _ q108) (hts _ q1358) (by decide +kernel) ⟨Nat.le_of_ble_eq_true rfl, Nat.le_of_ble_eq_true rfl⟩, hts _ q1107, hts _ q1108⟩ g10.1 rfl rfl hl.1 (Nat.le_of_ble_eq_true rfl) dX1_fireAt_16 ⟨Nat.zero_le _, Nat.zero_le _⟩ rfl (fun H locs hR hS => ?_)
    refine lv_if_ne (tgt := 24) hx hb dX1_fireAt_19 (by decide) (fun c11 => ?_) (fun c11 => ?_)
    · have hf := ite_f c11 hf
      refine lv_bipush (v := 8) hx hb dX1_fireAt_24 lb_8 ?_
      refine lv_iload_n hx hb dX1_fireAt_26 rfl (lv_at hl 2 rfl) ?_
      obtain ⟨v12, ev12, hf⟩ := lt_some hf
      refine n_imul hx hb ev12 dX1_fireAt_27 ?_
      refine lv_iload_n hx hb dX1_fireAt_28 rfl (lv_at hl 1 rfl) ?_
      obtain ⟨v13, ev13, hf⟩ := lt_some hf
      refine n_iadd hx hb ev13 dX1_fireAt_29 ?_
      refine lv_istore (lv' := [(4, .int v13), (0, .ref o), (1, .int p1), (2, .int p2), (3, .int p3)]) hx hb dX1_fireAt_30 hl (by decide) rfl (fun ls hl => ?_)
      refine lv_iload_n hx hb dX1_fireAt_32 rfl (lv_at hl 4 rfl) ?_
      refine lv_if_ne (tgt := 49) hx hb dX1_fireAt_33 (by decide) (fun c14 => ?_) (fun c14 => ?_)
      · have hf := ite_f c14 hf
        refine lv_iload_n hx hb dX1_fireAt_49 rfl (lv_at hl 4 rfl) ?_
        refine lv_iconst (v := 1) hx hb dX1_fireAt_50 li_1 ?_
        refine lv_icmp_ne (tgt := 75) hx hb dX1_fireAt_51 (by decide) (fun c15 => ?_) (fun c15 => ?_)
        · have hf := ite_f c15 hf
          refine lv_iload_n hx hb dX1_fireAt_75 rfl (lv_at hl 4 rfl) ?_
          refine lv_iconst (v := 2) hx hb dX1_fireAt_76 li_2 ?_
          refine lv_icmp_ne (tgt := 93) hx hb dX1_fireAt_77 (by decide) (fun c16 => ?_) (fun c16 => ?_)
          · have hf := ite_f c16 hf
            refine lv_iconst (v := -1) hx hb dX1_fireAt_93 li_m1 ?_
            obtain rfl := some_i hf
            exact hend _ _ _ _ dX1_fireAt_94 hR hS
          · have hf := ite_t c16 hf
            refine lv_aload_n hx hb dX1_fireAt_80 rfl (lv_at hl 1 rfl) ?_
            refine g_getx hx hb hts hown hG hR gFx_X1_169_0 k1 dX1_fireAt_81 ?_
            rw [← ex4]
            try rw [ha5]
            obtain ⟨x17, ex17, hf⟩ := lt_some hf
            refine g_getx hx hb hts hown hG hR gFx_X1_464_9 k6 dX1_fireAt_84 ?_
            rw [← ex17]
            refine lv_iload hx hb dX1_fireAt_87 (lv_at hl 0 rfl) ?_
            obtain ⟨a18, ha18, hf⟩ := bind_s hf
            try rw [ha18]
            obtain ⟨n19, hn19, hf⟩ := bind_s hf
            have kn19 := alen_k hn19
            obtain ⟨c20, hf⟩ := gdp_some hf
            obtain ⟨v21, ev21, hf⟩ := lt_some hf
            refine g_iald hx hb hG hR kn19 c20 dX1_fireAt_89 ?_
            rw [← ev21]
            refine lv_goto (tgt := 94) hx hb dX1_fireAt_90 (by decide) ?_
            obtain rfl := some_i hf
            exact hend _ _ _ _ dX1_fireAt_94 hR hS
        · have hf := ite_t c15 hf
          refine lv_aload_n hx hb dX1_fireAt_54 rfl (lv_at hl 1 rfl) ?_
          refine g_getx hx hb hts hown hG hR gFx_X1_169_0 k1 dX1_fireAt_55 ?_
          rw [← ex4]
          try rw [ha5]
          obtain ⟨x22, ex22, hf⟩ := lt_some hf
          refine g_getx hx hb hts hown hG hR gFx_X1_463_9 k6 dX1_fireAt_58 ?_
          rw [← ex22]
          refine lv_iload hx hb dX1_fireAt_61 (lv_at hl 0 rfl) ?_
          obtain ⟨a23, ha23, hf⟩ := bind_s hf
          try rw [ha23]
          obtain ⟨n24, hn24, hf⟩ := bind_s hf
          have kn24 := alen_k hn24
          obtain ⟨c25, hf⟩ := gdp_some hf
          obtain ⟨v26, ev26, hf⟩ := lt_some hf
          refine g_zald hx hb hG hR kn24 c25 dX1_fireAt_63 ?_
          rw [← ev26]
          refine lv_if_eq (tgt := 71) hx hb dX1_fireAt_64 (by decide) (fun c27 => ?_) (fun c27 => ?_)
          · have hf := ite_t c27 hf
            refine lv_iconst (v := 0) hx hb dX1_fireAt_71 li_0 ?_
            refine lv_goto (tgt := 94) hx hb dX1_fireAt_72 (by decide) ?_
            obtain rfl := some_i hf
            exact hend _ _ _ _ dX1_fireAt_94 hR hS
          · have hf := ite_f c27 hf
            refine lv_iconst (v := 1) hx hb dX1_fireAt_67 li_1 ?_
            refine lv_goto (tgt := 94) hx hb dX1_fireAt_68 (by decide) ?_
            obtain rfl := some_i hf
            exact hend _ _ _ _ dX1_fireAt_94 hR hS
      · have hf := ite_t c14 hf
        refine lv_aload_n hx hb dX1_fireAt_36 rfl (lv_at hl 1 rfl) ?_
        refine g_getx hx hb hts hown hG hR gFx_X1_169_0 k1 dX1_fireAt_37 ?_
        rw [← ex4]
        try rw [ha5]
        obtain ⟨x28, ex28, hf⟩ := lt_some hf
        refine g_getx hx hb hts hown hG hR gFx_X1_462_9 k6 dX1_fireAt_40 ?_
        rw [← ex28]
        refine lv_iload hx hb dX1_fireAt_43 (lv_at hl 0 rfl) ?_
        obtain ⟨a29, ha29, hf⟩ := bind_s hf
        try rw [ha29]
        obtain ⟨n30, hn30, hf⟩ := bind_s hf
        have kn30 := alen_k hn30
        obtain ⟨c31, hf⟩ := gdp_some hf
        obtain ⟨v32, ev32, hf⟩ := lt_some hf
        refine g_iald hx hb hG hR kn30 c31 dX1_fireAt_45 ?_
        rw [← ev32]
        refine lv_goto (tgt := 94) hx hb dX1_fireAt_46 (by decide) ?_
        obtain rfl := some_i hf
        exact hend _ _ _ _ dX1_fireAt_94 hR hS
    · have hf := ite_t c11 hf
      refine lv_iconst (v := -1) hx hb dX1_fireAt_22 li_m1 ?_
      obtain rfl := some_i hf
      exact hend _ _ _ _ dX1_fireAt_23 hR hS
noncomputable def w0_man (zz : Nat) (adS : Nat → Nat) (a1 : Nat) (p2 : Int32) (p3 : Int32) (a4 : Nat) (K : gK) (I : gI) (J : gJ) (X : gX) (A : gI) (B : gJ) (Q : gX) (n : Nat) : Option (Int32 × gK × gI × gJ × gX × gI × gJ × gX × Nat) :=
  gdp (∃ a, K a ≠ none) <|
  gdp (K a1 = some (.inl 0)) <|
  gdp (0 + 1 ≤ 1 ∧ 0 + 6 ≤ 6) <|
  (w1_man zz adS a1 p2 p3 K I J X A B Q n).bind fun r2 =>
  trs r2.1 (fun b5 =>
    gdp (r2.2.1 b5 = some (.inl 19)) <|
    gdp ((0 + 1) ≤ 1 ∧ (0 + 6) ≤ 6) <|
    some ((1 : Int32), r2.2.1, r2.2.2.1, r2.2.2.2.1, r2.2.2.2.2.1, r2.2.2.2.2.2.1, r2.2.2.2.2.2.2.1, r2.2.2.2.2.2.2.2.1, r2.2.2.2.2.2.2.2.2)
    ) fun v4 =>
  lt (v4.toInt64) fun v8 =>
  (alen r2.2.1 a4 3).bind fun n9 =>
  gdp (inb (0 : Int32) n9) <|
  lt (a_up r2.2.2.2.2.2.2.1 a4 (vp_updL (r2.2.2.2.2.2.2.1 a4) (0 : Int32).toNatClampNeg v8)) fun Bm11 =>
  gdp ((0 + 1) ≤ 1 ∧ (0 + 6) ≤ 6) <|
  some ((0 : Int32), r2.2.1, r2.2.2.1, r2.2.2.2.1, r2.2.2.2.2.1, r2.2.2.2.2.2.1, Bm11, r2.2.2.2.2.2.2.2.1, r2.2.2.2.2.2.2.2.2)
set_option maxHeartbeats 4000000 in
theorem m0_man_w (l : Launch) (hlS : l.stackTraces = false) (G : gG) (K : gK) (I : gI) (J : gJ) (X : gX) (A : gI) (B : gJ) (Q : gX) (n : Nat) (a1 : Nat) (p2 : Int32) (p3 : Int32) (a4 : Nat) (out : Int32 × gK × gI × gJ × gX × gI × gJ × gX × Nat) (hf : w0_man G.2.2 (aK G) a1 p2 p3 a4 K I J X A B Q n = some out) : GMetH l yX0_man cX0_man 5 (some .int) [(0, 10, 13, 13)] (10) (163) G [.ref a1, .int p2, .int p3, .ref a4] K I J X A B Q (.inr (some (.int out.1))) out.2.1 out.2.2.1 out.2.2.2.1 out.2.2.2.2.1 out.2.2.2.2.2.1 out.2.2.2.2.2.2.1 out.2.2.2.2.2.2.2.1 1 6 := by
  refine GMetH.of (y := yX0_man) rfl (Nat.le_of_ble_eq_true rfl) (la := [(0, .ref a1), (1, .int p2), (2, .int p3), (3, .ref a4)]) rfl ?_
  intro p e s m below meth c ls hx hb hr hml hlocks hts hown hname ht hG hR hW hl
  have hown : s.vm.findClass RX0 = some m.cls := hown
  have hS : va_S (gA G) s.heap s.heap [] := va_S.rf
  have hz : (∃ a, K a ≠ none) → G.2.2 ≤ s.heap.size := fun ⟨a, h⟩ => Nat.le_of_lt (Nat.lt_of_le_of_lt (hR.ge h) (hR.lt h))
  have hend : ∀ (pc : Nat) (H : Heap) (locs : List Loc) (ls : Array Slot), decode cX0_man pc = .ok (.ireturn, 1) → RS G out.2.1 out.2.2.1 out.2.2.2.1 out.2.2.2.2.1 out.2.2.2.2.2.1 out.2.2.2.2.2.2.1 out.2.2.2.2.2.2.2.1 H → va_S (gA G) s.heap H locs → W p l e ({ frames := 10, cells := 1, slots := 6, locals := 163 } : Room) s m ([.ref a1, .int p2, .int p3, .ref a4] : List Value).toArray below meth c H locs 1 6 (vx_MQ below (xQ G (.inr (some (.int out.1))) out.2.1 out.2.2.1 out.2.2.2.1 out.2.2.2.2.1 out.2.2.2.2.2.1 out.2.2.2.2.2.2.1 out.2.2.2.2.2.2.2.1) (xX G (.inr (some (.int out.1))) out.2.1 out.2.2.1 out.2.2.2.1 out.2.2.2.2.1 out.2.2.2.2.2.1 out.2.2.2.2.2.2.1 out.2.2.2.2.2.2.2.1) ([.ref a1, .int p2, .int p3, .ref a4] : List Value).toArray s 1 6 (gA G)) (F0 m pc ls [.int out.1]) := fun pc H locs ls hd hR hS => x_nret hx hb hr rfl hlocks hG hR hS rfl hd
  generalize vx_MQ below (xQ G (.inr (some (.int out.1))) out.2.1 out.2.2.1 out.2.2.2.1 out.2.2.2.2.1 out.2.2.2.2.2.1 out.2.2.2.2.2.2.1 out.2.2.2.2.2.2.2.1) (xX G (.inr (some (.int out.1))) out.2.1 out.2.2.1 out.2.2.2.1 out.2.2.2.2.1 out.2.2.2.2.2.1 out.2.2.2.2.2.2.1 out.2.2.2.2.2.2.2.1) ([.ref a1, .int p2, .int p3, .ref a4] : List Value).toArray s 1 6 (gA G) = Z at hend ⊢
  generalize ([.ref a1, .int p2, .int p3, .ref a4] : List Value).toArray = args at hts hend ⊢
  unfold w0_man at hf
  obtain ⟨k0, hf⟩ := gdp_some hf
  refine lv_aload_n hx hb dX0_man_0 rfl (lv_at hl 3 rfl) ?_
  refine lv_iconst (v := 0) hx hb dX0_man_1 li_0 ?_
  refine lv_aload_n hx hb dX0_man_2 rfl (lv_at hl 0 rfl) ?_
  refine lv_iload_n hx hb dX0_man_3 rfl (lv_at hl 1 rfl) ?_
  refine lv_iload_n hx hb dX0_man_4 rfl (lv_at hl 2 rfl) ?_
  obtain ⟨k1, hf⟩ := gdp_some hf
  obtain ⟨c3, hf⟩ := gdp_some hf
  obtain ⟨r2, hr2, hf⟩ := bind_s hf
  refine x_gosi (vx_runV (As := [.int p2, .int p3]) (rest := [.int (0 : Int32), .ref a4]) (b := a1) ⟨hx, hb, hml, hown, hts⟩ (m1_man_w l hlS G K I J X A B Q n a1 p2 p3 r2 hr2) ⟨callB_of 2 hts (lw_meth q1569) rfl rfl rfl (hts _ q103) (hts _ q1566) (by decide +kernel) ⟨Nat.le_of_ble_eq_true rfl, Nat.le_of_ble_eq_true rfl⟩, hts _ q1567, hts _ q1568⟩ (x_preV hG hR hW hS k1 rfl) rfl rfl hl.1 rfl (lv_room (Nat.le_of_ble_eq_true rfl)) dX0_man_5 ⟨c3.1, c3.2⟩) hS (fun b5 H locs hnv4 hR hS => ?_) (fun v4 H locs hvv4 hR hS => ?_)
  · have hf := trs_l hnv4 hf
    obtain ⟨k6, hf⟩ := gdp_some hf
    refine e_catch (ci := 19) hown ht hG hR k6 rfl (hts _ q1565) (va_Nw.use rfl (hG.2 _ q1575 rfl)) (by decide) (by decide) ?_
    refine lv_astore (lv' := [(4, .ref b5), (0, .ref a1), (1, .int p2), (2, .int p3), (3, .ref a4)]) hx hb dX0_man_13 hl (by decide) (by first | rfl | simp [va_rf_c]) (fun ls hl => ?_)
    refine lv_iconst (v := 1) hx hb dX0_man_15 li_1 ?_
    obtain ⟨c7, hf⟩ := gdp_some hf
    refine W.widen c7.1 c7.2 ?_
    obtain rfl := some_i hf
    exact hend _ _ _ _ dX0_man_16 hR hS
  have hf := trs_r hvv4 hf
  obtain ⟨v8, ev8, hf⟩ := lt_some hf
  refine n_i2l hx hb ev8 dX0_man_8 ?_
  obtain ⟨n9, hn9, hf⟩ := bind_s hf
  have kn9 := alen_k hn9
  obtain ⟨c10, hf⟩ := gdp_some hf
  refine g_last hx hb hG hR hS kn9 c10 dX0_man_9 (fun H locs hR hS => ?_)
  obtain ⟨Bm11, eBm11, hf⟩ := lt_some hf
  rw [← eBm11] at hR
  refine lv_goto (tgt := 17) hx hb dX0_man_10 (by decide) ?_
  refine lv_iconst (v := 0) hx hb dX0_man_17 li_0 ?_
  obtain ⟨c12, hf⟩ := gdp_some hf
  refine W.widen c12.1 c12.2 ?_
  obtain rfl := some_i hf
  exact hend _ _ _ _ dX0_man_18 hR hS
noncomputable def w0_cell (zz : Nat) (adS : Nat → Nat) (a1 : Nat) (p2 : Int32) (p3 : Int32) (p4 : Int32) (a5 : Nat) (K : gK) (I : gI) (J : gJ) (X : gX) (A : gI) (B : gJ) (Q : gX) (n : Nat) : Option (Int32 × gK × gI × gJ × gX × gI × gJ × gX × Nat) :=
  gdp (∃ a, K a ≠ none) <|
  gdp (K a1 = some (.inl 0)) <|
  gdp (0 + 1 ≤ 1 ∧ 0 + 6 ≤ 6) <|
  (w1_cell zz adS a1 p2 p3 p4 K I J X A B Q n).bind fun r2 =>
  trs r2.1 (fun b5 =>
    gdp (r2.2.1 b5 = some (.inl 19)) <|
    gdp ((0 + 1) ≤ 1 ∧ (0 + 6) ≤ 6) <|
    some ((1 : Int32), r2.2.1, r2.2.2.1, r2.2.2.2.1, r2.2.2.2.2.1, r2.2.2.2.2.2.1, r2.2.2.2.2.2.2.1, r2.2.2.2.2.2.2.2.1, r2.2.2.2.2.2.2.2.2)
    ) fun v4 =>
  lt (v4.toInt64) fun v8 =>
  (alen r2.2.1 a5 3).bind fun n9 =>
  gdp (inb (0 : Int32) n9) <|
  lt (a_up r2.2.2.2.2.2.2.1 a5 (vp_updL (r2.2.2.2.2.2.2.1 a5) (0 : Int32).toNatClampNeg v8)) fun Bm11 =>
  gdp ((0 + 1) ≤ 1 ∧ (0 + 6) ≤ 6) <|
  some ((0 : Int32), r2.2.1, r2.2.2.1, r2.2.2.2.1, r2.2.2.2.2.1, r2.2.2.2.2.2.1, Bm11, r2.2.2.2.2.2.2.2.1, r2.2.2.2.2.2.2.2.2)
set_option maxHeartbeats 4000000 in
theorem m0_cell_w (l : Launch) (hlS : l.stackTraces = false) (G : gG) (K : gK) (I : gI) (J : gJ) (X : gX) (A : gI) (B : gJ) (Q : gX) (n : Nat) (a1 : Nat) (p2 : Int32) (p3 : Int32) (p4 : Int32) (a5 : Nat) (out : Int32 × gK × gI × gJ × gX × gI × gJ × gX × Nat) (hf : w0_cell G.2.2 (aK G) a1 p2 p3 p4 a5 K I J X A B Q n = some out) : GMetH l yX0_cell cX0_cell 6 (some .int) [(0, 12, 15, 13)] (10) (163) G [.ref a1, .int p2, .int p3, .int p4, .ref a5] K I J X A B Q (.inr (some (.int out.1))) out.2.1 out.2.2.1 out.2.2.2.1 out.2.2.2.2.1 out.2.2.2.2.2.1 out.2.2.2.2.2.2.1 out.2.2.2.2.2.2.2.1 1 6 := by
  refine GMetH.of (y := yX0_cell) rfl (Nat.le_of_ble_eq_true rfl) (la := [(0, .ref a1), (1, .int p2), (2, .int p3), (3, .int p4), (4, .ref a5)]) rfl ?_
  intro p e s m below meth c ls hx hb hr hml hlocks hts hown hname ht hG hR hW hl
  have hown : s.vm.findClass RX0 = some m.cls := hown
  have hS : va_S (gA G) s.heap s.heap [] := va_S.rf
  have hz : (∃ a, K a ≠ none) → G.2.2 ≤ s.heap.size := fun ⟨a, h⟩ => Nat.le_of_lt (Nat.lt_of_le_of_lt (hR.ge h) (hR.lt h))
  have hend : ∀ (pc : Nat) (H : Heap) (locs : List Loc) (ls : Array Slot), decode cX0_cell pc = .ok (.ireturn, 1) → RS G out.2.1 out.2.2.1 out.2.2.2.1 out.2.2.2.2.1 out.2.2.2.2.2.1 out.2.2.2.2.2.2.1 out.2.2.2.2.2.2.2.1 H → va_S (gA G) s.heap H locs → W p l e ({ frames := 10, cells := 1, slots := 6, locals := 163 } : Room) s m ([.ref a1, .int p2, .int p3, .int p4, .ref a5] : List Value).toArray below meth c H locs 1 6 (vx_MQ below (xQ G (.inr (some (.int out.1))) out.2.1 out.2.2.1 out.2.2.2.1 out.2.2.2.2.1 out.2.2.2.2.2.1 out.2.2.2.2.2.2.1 out.2.2.2.2.2.2.2.1) (xX G (.inr (some (.int out.1))) out.2.1 out.2.2.1 out.2.2.2.1 out.2.2.2.2.1 out.2.2.2.2.2.1 out.2.2.2.2.2.2.1 out.2.2.2.2.2.2.2.1) ([.ref a1, .int p2, .int p3, .int p4, .ref a5] : List Value).toArray s 1 6 (gA G)) (F0 m pc ls [.int out.1]) := fun pc H locs ls hd hR hS => x_nret hx hb hr rfl hlocks hG hR hS rfl hd
  generalize vx_MQ below (xQ G (.inr (some (.int out.1))) out.2.1 out.2.2.1 out.2.2.2.1 out.2.2.2.2.1 out.2.2.2.2.2.1 out.2.2.2.2.2.2.1 out.2.2.2.2.2.2.2.1) (xX G (.inr (some (.int out.1))) out.2.1 out.2.2.1 out.2.2.2.1 out.2.2.2.2.1 out.2.2.2.2.2.1 out.2.2.2.2.2.2.1 out.2.2.2.2.2.2.2.1) ([.ref a1, .int p2, .int p3, .int p4, .ref a5] : List Value).toArray s 1 6 (gA G) = Z at hend ⊢
  generalize ([.ref a1, .int p2, .int p3, .int p4, .ref a5] : List Value).toArray = args at hts hend ⊢
  unfold w0_cell at hf
  obtain ⟨k0, hf⟩ := gdp_some hf
  refine lv_aload hx hb dX0_cell_0 (lv_at hl 4 rfl) ?_
  refine lv_iconst (v := 0) hx hb dX0_cell_2 li_0 ?_
  refine lv_aload_n hx hb dX0_cell_3 rfl (lv_at hl 0 rfl) ?_
  refine lv_iload_n hx hb dX0_cell_4 rfl (lv_at hl 1 rfl) ?_
  refine lv_iload_n hx hb dX0_cell_5 rfl (lv_at hl 2 rfl) ?_
  refine lv_iload_n hx hb dX0_cell_6 rfl (lv_at hl 3 rfl) ?_
  obtain ⟨k1, hf⟩ := gdp_some hf
  obtain ⟨c3, hf⟩ := gdp_some hf
  obtain ⟨r2, hr2, hf⟩ := bind_s hf
  refine x_gosi (vx_runV (As := [.int p2, .int p3, .int p4]) (rest := [.int (0 : Int32), .ref a5]) (b := a1) ⟨hx, hb, hml, hown, hts⟩ (m1_cell_w l hlS G K I J X A B Q n a1 p2 p3 p4 r2 hr2) ⟨callB_of 3 hts (lw_meth q1602) rfl rfl rfl (hts _ q103) (hts _ q1599) (by decide +kernel) ⟨Nat.le_of_ble_eq_true rfl, Nat.le_of_ble_eq_true rfl⟩, hts _ q1600, hts _ q1601⟩ (x_preV hG hR hW hS k1 rfl) rfl rfl hl.1 rfl (lv_room (Nat.le_of_ble_eq_true rfl)) dX0_cell_7 ⟨c3.1, c3.2⟩) hS (fun b5 H locs hnv4 hR hS => ?_) (fun v4 H locs hvv4 hR hS => ?_)
  · have hf := trs_l hnv4 hf
    obtain ⟨k6, hf⟩ := gdp_some hf
    refine e_catch (ci := 19) hown ht hG hR k6 rfl (hts _ q1565) (va_Nw.use rfl (hG.2 _ q1575 rfl)) (by decide) (by decide) ?_
    refine lv_astore (lv' := [(5, .ref b5), (0, .ref a1), (1, .int p2), (2, .int p3), (3, .int p4), (4, .ref a5)]) hx hb dX0_cell_15 hl (by decide) (by first | rfl | simp [va_rf_c]) (fun ls hl => ?_)
    refine lv_iconst (v := 1) hx hb dX0_cell_17 li_1 ?_
    obtain ⟨c7, hf⟩ := gdp_some hf
    refine W.widen c7.1 c7.2 ?_
    obtain rfl := some_i hf
    exact hend _ _ _ _ dX0_cell_18 hR hS
  have hf := trs_r hvv4 hf
  obtain ⟨v8, ev8, hf⟩ := lt_some hf
  refine n_i2l hx hb ev8 dX0_cell_10 ?_
  obtain ⟨n9, hn9, hf⟩ := bind_s hf
  have kn9 := alen_k hn9
  obtain ⟨c10, hf⟩ := gdp_some hf
  refine g_last hx hb hG hR hS kn9 c10 dX0_cell_11 (fun H locs hR hS => ?_)
  obtain ⟨Bm11, eBm11, hf⟩ := lt_some hf
  rw [← eBm11] at hR
  refine lv_goto (tgt := 19) hx hb dX0_cell_12 (by decide) ?_
  refine lv_iconst (v := 0) hx hb dX0_cell_19 li_0 ?_
  obtain ⟨c12, hf⟩ := gdp_some hf
  refine W.widen c12.1 c12.2 ?_
  obtain rfl := some_i hf
  exact hend _ _ _ _ dX0_cell_20 hR hS
noncomputable def w0_cost (zz : Nat) (adS : Nat → Nat) (a1 : Nat) (p2 : Int32) (p3 : Int32) (a4 : Nat) (K : gK) (I : gI) (J : gJ) (X : gX) (A : gI) (B : gJ) (Q : gX) (n : Nat) : Option (Int32 × gK × gI × gJ × gX × gI × gJ × gX × Nat) :=
  gdp (∃ a, K a ≠ none) <|
  gdp (K a1 = some (.inl 0)) <|
  gdp (0 + 1 ≤ 1 ∧ 0 + 6 ≤ 6) <|
  (w1_cost zz adS a1 p2 p3 K I J X A B Q n).bind fun r2 =>
  trs r2.1 (fun b5 =>
    gdp (r2.2.1 b5 = some (.inl 19)) <|
    gdp ((0 + 1) ≤ 1 ∧ (0 + 6) ≤ 6) <|
    some ((1 : Int32), r2.2.1, r2.2.2.1, r2.2.2.2.1, r2.2.2.2.2.1, r2.2.2.2.2.2.1, r2.2.2.2.2.2.2.1, r2.2.2.2.2.2.2.2.1, r2.2.2.2.2.2.2.2.2)
    ) fun v4 =>
  lt (v4.toInt64) fun v8 =>
  (alen r2.2.1 a4 3).bind fun n9 =>
  gdp (inb (0 : Int32) n9) <|
  lt (a_up r2.2.2.2.2.2.2.1 a4 (vp_updL (r2.2.2.2.2.2.2.1 a4) (0 : Int32).toNatClampNeg v8)) fun Bm11 =>
  gdp ((0 + 1) ≤ 1 ∧ (0 + 6) ≤ 6) <|
  some ((0 : Int32), r2.2.1, r2.2.2.1, r2.2.2.2.1, r2.2.2.2.2.1, r2.2.2.2.2.2.1, Bm11, r2.2.2.2.2.2.2.2.1, r2.2.2.2.2.2.2.2.2)
set_option maxHeartbeats 4000000 in
theorem m0_cost_w (l : Launch) (hlS : l.stackTraces = false) (G : gG) (K : gK) (I : gI) (J : gJ) (X : gX) (A : gI) (B : gJ) (Q : gX) (n : Nat) (a1 : Nat) (p2 : Int32) (p3 : Int32) (a4 : Nat) (out : Int32 × gK × gI × gJ × gX × gI × gJ × gX × Nat) (hf : w0_cost G.2.2 (aK G) a1 p2 p3 a4 K I J X A B Q n = some out) : GMetH l yX0_cost cX0_cost 5 (some .int) [(0, 10, 13, 13)] (10) (164) G [.ref a1, .int p2, .int p3, .ref a4] K I J X A B Q (.inr (some (.int out.1))) out.2.1 out.2.2.1 out.2.2.2.1 out.2.2.2.2.1 out.2.2.2.2.2.1 out.2.2.2.2.2.2.1 out.2.2.2.2.2.2.2.1 1 6 := by
  refine GMetH.of (y := yX0_cost) rfl (Nat.le_of_ble_eq_true rfl) (la := [(0, .ref a1), (1, .int p2), (2, .int p3), (3, .ref a4)]) rfl ?_
  intro p e s m below meth c ls hx hb hr hml hlocks hts hown hname ht hG hR hW hl
  have hown : s.vm.findClass RX0 = some m.cls := hown
  have hS : va_S (gA G) s.heap s.heap [] := va_S.rf
  have hz : (∃ a, K a ≠ none) → G.2.2 ≤ s.heap.size := fun ⟨a, h⟩ => Nat.le_of_lt (Nat.lt_of_le_of_lt (hR.ge h) (hR.lt h))
  have hend : ∀ (pc : Nat) (H : Heap) (locs : List Loc) (ls : Array Slot), decode cX0_cost pc = .ok (.ireturn, 1) → RS G out.2.1 out.2.2.1 out.2.2.2.1 out.2.2.2.2.1 out.2.2.2.2.2.1 out.2.2.2.2.2.2.1 out.2.2.2.2.2.2.2.1 H → va_S (gA G) s.heap H locs → W p l e ({ frames := 10, cells := 1, slots := 6, locals := 164 } : Room) s m ([.ref a1, .int p2, .int p3, .ref a4] : List Value).toArray below meth c H locs 1 6 (vx_MQ below (xQ G (.inr (some (.int out.1))) out.2.1 out.2.2.1 out.2.2.2.1 out.2.2.2.2.1 out.2.2.2.2.2.1 out.2.2.2.2.2.2.1 out.2.2.2.2.2.2.2.1) (xX G (.inr (some (.int out.1))) out.2.1 out.2.2.1 out.2.2.2.1 out.2.2.2.2.1 out.2.2.2.2.2.1 out.2.2.2.2.2.2.1 out.2.2.2.2.2.2.2.1) ([.ref a1, .int p2, .int p3, .ref a4] : List Value).toArray s 1 6 (gA G)) (F0 m pc ls [.int out.1]) := fun pc H locs ls hd hR hS => x_nret hx hb hr rfl hlocks hG hR hS rfl hd
  generalize vx_MQ below (xQ G (.inr (some (.int out.1))) out.2.1 out.2.2.1 out.2.2.2.1 out.2.2.2.2.1 out.2.2.2.2.2.1 out.2.2.2.2.2.2.1 out.2.2.2.2.2.2.2.1) (xX G (.inr (some (.int out.1))) out.2.1 out.2.2.1 out.2.2.2.1 out.2.2.2.2.1 out.2.2.2.2.2.1 out.2.2.2.2.2.2.1 out.2.2.2.2.2.2.2.1) ([.ref a1, .int p2, .int p3, .ref a4] : List Value).toArray s 1 6 (gA G) = Z at hend ⊢
  generalize ([.ref a1, .int p2, .int p3, .ref a4] : List Value).toArray = args at hts hend ⊢
  unfold w0_cost at hf
  obtain ⟨k0, hf⟩ := gdp_some hf
  refine lv_aload_n hx hb dX0_cost_0 rfl (lv_at hl 3 rfl) ?_
  refine lv_iconst (v := 0) hx hb dX0_cost_1 li_0 ?_
  refine lv_aload_n hx hb dX0_cost_2 rfl (lv_at hl 0 rfl) ?_
  refine lv_iload_n hx hb dX0_cost_3 rfl (lv_at hl 1 rfl) ?_
  refine lv_iload_n hx hb dX0_cost_4 rfl (lv_at hl 2 rfl) ?_
  obtain ⟨k1, hf⟩ := gdp_some hf
  obtain ⟨c3, hf⟩ := gdp_some hf
  obtain ⟨r2, hr2, hf⟩ := bind_s hf
  refine x_gosi (vx_runV (As := [.int p2, .int p3]) (rest := [.int (0 : Int32), .ref a4]) (b := a1) ⟨hx, hb, hml, hown, hts⟩ (m1_cost_w l hlS G K I J X A B Q n a1 p2 p3 r2 hr2) ⟨callB_of 2 hts (lw_meth q1609) rfl rfl rfl (hts _ q103) (hts _ q1606) (by decide +kernel) ⟨Nat.le_of_ble_eq_true rfl, Nat.le_of_ble_eq_true rfl⟩, hts _ q1607, hts _ q1608⟩ (x_preV hG hR hW hS k1 rfl) rfl rfl hl.1 rfl (lv_room (Nat.le_of_ble_eq_true rfl)) dX0_cost_5 ⟨c3.1, c3.2⟩) hS (fun b5 H locs hnv4 hR hS => ?_) (fun v4 H locs hvv4 hR hS => ?_)
  · have hf := trs_l hnv4 hf
    obtain ⟨k6, hf⟩ := gdp_some hf
    refine e_catch (ci := 19) hown ht hG hR k6 rfl (hts _ q1565) (va_Nw.use rfl (hG.2 _ q1575 rfl)) (by decide) (by decide) ?_
    refine lv_astore (lv' := [(4, .ref b5), (0, .ref a1), (1, .int p2), (2, .int p3), (3, .ref a4)]) hx hb dX0_cost_13 hl (by decide) (by first | rfl | simp [va_rf_c]) (fun ls hl => ?_)
    refine lv_iconst (v := 1) hx hb dX0_cost_15 li_1 ?_
    obtain ⟨c7, hf⟩ := gdp_some hf
    refine W.widen c7.1 c7.2 ?_
    obtain rfl := some_i hf
    exact hend _ _ _ _ dX0_cost_16 hR hS
  have hf := trs_r hvv4 hf
  obtain ⟨v8, ev8, hf⟩ := lt_some hf
  refine n_i2l hx hb ev8 dX0_cost_8 ?_
  obtain ⟨n9, hn9, hf⟩ := bind_s hf
  have kn9 := alen_k hn9
  obtain ⟨c10, hf⟩ := gdp_some hf
  refine g_last hx hb hG hR hS kn9 c10 dX0_cost_9 (fun H locs hR hS => ?_)
  obtain ⟨Bm11, eBm11, hf⟩ := lt_some hf
  rw [← eBm11] at hR
  refine lv_goto (tgt := 17) hx hb dX0_cost_10 (by decide) ?_
  refine lv_iconst (v := 0) hx hb dX0_cost_17 li_0 ?_
  obtain ⟨c12, hf⟩ := gdp_some hf
  refine W.widen c12.1 c12.2 ?_
  obtain rfl := some_i hf
  exact hend _ _ _ _ dX0_cost_18 hR hS
