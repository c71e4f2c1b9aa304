/-! makers: the walks (printed by tools) 1 -/
set_option maxRecDepth 100000
noncomputable def w13_any_e8_0 (kf : Nat) (kv : Nat) (x8_0 : Nat × gK × gI × gJ × gX × gI × gJ × gX × Nat × Nat × Nat) : Option ((Nat ⊕ Nat) × gK × gI × gJ × gX × gI × gJ × gX × Nat) :=
  gdp (x8_0.2.2.2.2.2.2.2.2.2.1 = kf ∧ x8_0.2.2.2.2.2.2.2.2.2.2 = kv) <|
  some ((.inr x8_0.1), x8_0.2.1, x8_0.2.2.1, x8_0.2.2.2.1, x8_0.2.2.2.2.1, x8_0.2.2.2.2.2.1, x8_0.2.2.2.2.2.2.1, x8_0.2.2.2.2.2.2.2.1, x8_0.2.2.2.2.2.2.2.2.1)

noncomputable def w13_any_e8_1 (x8_1 : (Nat ⊕ Nat) × gK × gI × gJ × gX × gI × gJ × gX × Nat) : Option ((Nat ⊕ Nat) × gK × gI × gJ × gX × gI × gJ × gX × Nat) :=
  some x8_1

noncomputable def w13_any_s8 (q_X13_both : Nat → (Nat → Nat) → Nat → Nat → Nat → Int32 → gK → gI → gJ → gX → gI → gJ → gX → Nat → Option ((Nat ⊕ Nat) × gK × gI × gJ × gX × gI × gJ × gX × Nat)) (zz : Nat) (adS : Nat → Nat) (kf : Nat) (kv : Nat) (o : Nat) (p1 : Int32) (w8_2 : Nat) (w8_K : gK) (w8_I : gI) (w8_J : gJ) (w8_X : gX) (w8_A : gI) (w8_B : gJ) (w8_Q : gX) (w8_n : Nat) (w8_u : Nat) (w8_v : Nat) : Option ((Nat × gK × gI × gJ × gX × gI × gJ × gX × Nat × Nat × Nat) ⊕ ((Nat × gK × gI × gJ × gX × gI × gJ × gX × Nat × Nat × Nat) ⊕ ((Nat ⊕ Nat) × gK × gI × gJ × gX × gI × gJ × gX × Nat))) :=
  gdp (w8_u ≤ kf ∧ w8_v ≤ kv) <|
  (w8_X 1007 o).bind fun a12 =>
  gdp (Sh w8_K w8_X o 10 rows10) <|
  gdp (Sh w8_K w8_X a12 0 rows0) <|
  (f6_isS 20 (w8_I 1002 o) (w8_I 1003 o) (w8_I 1005 o) (w8_A (a12 + 1))).bind fun r10 =>
  if r10 = 0 then
    some (.inr (.inl (w8_2, w8_K, w8_I, w8_J, w8_X, w8_A, w8_B, w8_Q, w8_n, w8_u, w8_v)))
  else
    (w8_X 1007 o).bind fun a17 =>
    gdp (Sh w8_K w8_X a17 0 rows0) <|
    (f6_nextS (w8_I 2 a17) (w8_I 1000 o) (w8_I 1001 o) (w8_I 1002 o) (w8_I 1003 o) (w8_I 1004 o) (w8_I 1005 o) (w8_J 1006 o) (w8_A (a17 + 1))).bind fun r16 =>
    lt ((ov w8_I [(1001, o, r16.1), (1002, o, r16.2.1), (1003, o, r16.2.2.1), (1004, o, r16.2.2.2.1), (1005, o, r16.2.2.2.2.1)])) fun Im19 =>
    lt ((ov w8_J [(1006, o, r16.2.2.2.2.2)])) fun Jm20 =>
    gdp (freshz zz w8_K w8_n) <|
    gdp (w8_u + 1 ≤ kf ∧ w8_v + 2 ≤ kv) <|
    lt (a_up w8_K w8_n (some (.inl 18))) fun Km23 =>
    lt (zc Im19 w8_n 0) fun Im24 =>
    lt (zc Jm20 w8_n 0) fun Jm25 =>
    lt (zc w8_X w8_n none) fun Xm26 =>
    lt (w8_n + 1) fun n27 =>
    lt (w8_u + 1) fun u28 =>
    lt (w8_v + 2) fun v29 =>
    gdp (Km23 o = some (.inl 10)) <|
    (anyk fun k9 v9 => q_X13_both zz adS k9 v9 o p1 Km23 Im24 Jm25 Xm26 w8_A w8_B w8_Q n27).bind fun r31 =>
    gdp (u28 + r31.1 ≤ kf ∧ v29 + r31.2.1 ≤ kv) <|
    trs r31.2.2.1 (fun b34 =>
      gdp (r31.2.2.2.1 b34 = some (.inl 1)) <|
      gdp ((u28 + r31.1) = kf ∧ (v29 + r31.2.1) = kv) <|
      some (.inr (.inr ((.inl b34), r31.2.2.2.1, r31.2.2.2.2.1, r31.2.2.2.2.2.1, r31.2.2.2.2.2.2.1, r31.2.2.2.2.2.2.2.1, r31.2.2.2.2.2.2.2.2.1, r31.2.2.2.2.2.2.2.2.2.1, r31.2.2.2.2.2.2.2.2.2.2)))
      ) fun v33 =>
    gdp ((u28 + r31.1) ≤ kf ∧ (v29 + r31.2.1) ≤ kv) <|
    (w22_init zz adS w8_n w8_2 v33 r31.2.2.2.1 r31.2.2.2.2.1 r31.2.2.2.2.2.1 r31.2.2.2.2.2.2.1 r31.2.2.2.2.2.2.2.1 r31.2.2.2.2.2.2.2.2.1 r31.2.2.2.2.2.2.2.2.2.1 r31.2.2.2.2.2.2.2.2.2.2).bind fun r37 =>
    some (.inl (w8_n, r37.1, r37.2.1, r37.2.2.1, r37.2.2.2.1, r37.2.2.2.2.1, r37.2.2.2.2.2.1, r37.2.2.2.2.2.2.1, r37.2.2.2.2.2.2.2, (u28 + r31.1), (v29 + r31.2.1)))

noncomputable def wb13_any (q_X13_any : Nat → (Nat → Nat) → Nat → Nat → Nat → Int32 → gK → gI → gJ → gX → gI → gJ → gX → Nat → Option ((Nat ⊕ Nat) × gK × gI × gJ × gX × gI × gJ × gX × Nat)) (q_X13_both : Nat → (Nat → Nat) → Nat → Nat → Nat → Int32 → gK → gI → gJ → gX → gI → gJ → gX → Nat → Option ((Nat ⊕ Nat) × gK × gI × gJ × gX × gI × gJ × gX × Nat)) (q_X13_single : Nat → (Nat → Nat) → Nat → Nat → Nat → Int32 → gK → gI → gJ → gX → gI → gJ → gX → Nat → Option ((Nat ⊕ Nat) × gK × gI × gJ × gX × gI × gJ × gX × Nat)) (zz : Nat) (adS : Nat → Nat) (kf : Nat) (kv : Nat) (o : Nat) (p1 : Int32) (K : gK) (I : gI) (J : gJ) (X : gX) (A : gI) (B : gJ) (Q : gX) (n : Nat) : Option ((Nat ⊕ Nat) × gK × gI × gJ × gX × gI × gJ × gX × Nat) :=
  gdp (∃ a, K a ≠ none) <|
  gdp (K o = some (.inl 10)) <|
  (anyk fun k9 v9 => q_X13_both zz adS k9 v9 o p1 K I J X A B Q n).bind fun r2 =>
  gdp (0 + r2.1 ≤ kf ∧ 0 + r2.2.1 ≤ kv) <|
  trs r2.2.2.1 (fun b5 =>
    gdp (r2.2.2.2.1 b5 = some (.inl 1)) <|
    gdp ((0 + r2.1) = kf ∧ (0 + r2.2.1) = kv) <|
    some ((.inl b5), r2.2.2.2.1, r2.2.2.2.2.1, r2.2.2.2.2.2.1, r2.2.2.2.2.2.2.1, r2.2.2.2.2.2.2.2.1, r2.2.2.2.2.2.2.2.2.1, r2.2.2.2.2.2.2.2.2.2.1, r2.2.2.2.2.2.2.2.2.2.2)
    ) fun v4 =>
  (whl (fun (s8 : Nat × gK × gI × gJ × gX × gI × gJ × gX × Nat × Nat × Nat) => w13_any_s8 q_X13_both zz adS kf kv o p1 s8.1 s8.2.1 s8.2.2.1 s8.2.2.2.1 s8.2.2.2.2.1 s8.2.2.2.2.2.1 s8.2.2.2.2.2.2.1 s8.2.2.2.2.2.2.2.1 s8.2.2.2.2.2.2.2.2.1 s8.2.2.2.2.2.2.2.2.2.1 s8.2.2.2.2.2.2.2.2.2.2) FU (v4, r2.2.2.2.1, r2.2.2.2.2.1, r2.2.2.2.2.2.1, r2.2.2.2.2.2.2.1, r2.2.2.2.2.2.2.2.1, r2.2.2.2.2.2.2.2.2.1, r2.2.2.2.2.2.2.2.2.2.1, r2.2.2.2.2.2.2.2.2.2.2, (0 + r2.1), (0 + r2.2.1))).bind fun rl8 =>
  Sum.elim (w13_any_e8_0 kf kv) (w13_any_e8_1) rl8
noncomputable def w13_both_e8_0 (kf : Nat) (kv : Nat) (x8_0 : Nat × gK × gI × gJ × gX × gI × gJ × gX × Nat × Nat × Nat) : Option ((Nat ⊕ Nat) × gK × gI × gJ × gX × gI × gJ × gX × Nat) :=
  gdp (x8_0.2.2.2.2.2.2.2.2.2.1 = kf ∧ x8_0.2.2.2.2.2.2.2.2.2.2 = kv) <|
  some ((.inr x8_0.1), x8_0.2.1, x8_0.2.2.1, x8_0.2.2.2.1, x8_0.2.2.2.2.1, x8_0.2.2.2.2.2.1, x8_0.2.2.2.2.2.2.1, x8_0.2.2.2.2.2.2.2.1, x8_0.2.2.2.2.2.2.2.2.1)

noncomputable def w13_both_e8_1 (x8_1 : (Nat ⊕ Nat) × gK × gI × gJ × gX × gI × gJ × gX × Nat) : Option ((Nat ⊕ Nat) × gK × gI × gJ × gX × gI × gJ × gX × Nat) :=
  some x8_1

noncomputable def w13_both_s8 (q_X13_single : Nat → (Nat → Nat) → Nat → Nat → Nat → Int32 → gK → gI → gJ → gX → gI → gJ → gX → Nat → Option ((Nat ⊕ Nat) × gK × gI × gJ × gX × gI × gJ × gX × Nat)) (zz : Nat) (adS : Nat → Nat) (kf : Nat) (kv : Nat) (o : Nat) (p1 : Int32) (w8_2 : Nat) (w8_K : gK) (w8_I : gI) (w8_J : gJ) (w8_X : gX) (w8_A : gI) (w8_B : gJ) (w8_Q : gX) (w8_n : Nat) (w8_u : Nat) (w8_v : Nat) : Option ((Nat × gK × gI × gJ × gX × gI × gJ × gX × Nat × Nat × Nat) ⊕ ((Nat × gK × gI × gJ × gX × gI × gJ × gX × Nat × Nat × Nat) ⊕ ((Nat ⊕ Nat) × gK × gI × gJ × gX × gI × gJ × gX × Nat))) :=
  gdp (w8_u ≤ kf ∧ w8_v ≤ kv) <|
  (w8_X 1007 o).bind fun a12 =>
  gdp (Sh w8_K w8_X o 10 rows10) <|
  gdp (Sh w8_K w8_X a12 0 rows0) <|
  (f6_isS 21 (w8_I 1002 o) (w8_I 1003 o) (w8_I 1005 o) (w8_A (a12 + 1))).bind fun r10 =>
  if r10 = 0 then
    some (.inr (.inl (w8_2, w8_K, w8_I, w8_J, w8_X, w8_A, w8_B, w8_Q, w8_n, w8_u, w8_v)))
  else
    (w8_X 1007 o).bind fun a17 =>
    gdp (Sh w8_K w8_X a17 0 rows0) <|
    (f6_nextS (w8_I 2 a17) (w8_I 1000 o) (w8_I 1001 o) (w8_I 1002 o) (w8_I 1003 o) (w8_I 1004 o) (w8_I 1005 o) (w8_J 1006 o) (w8_A (a17 + 1))).bind fun r16 =>
    lt ((ov w8_I [(1001, o, r16.1), (1002, o, r16.2.1), (1003, o, r16.2.2.1), (1004, o, r16.2.2.2.1), (1005, o, r16.2.2.2.2.1)])) fun Im19 =>
    lt ((ov w8_J [(1006, o, r16.2.2.2.2.2)])) fun Jm20 =>
    gdp (freshz zz w8_K w8_n) <|
    gdp (w8_u + 1 ≤ kf ∧ w8_v + 2 ≤ kv) <|
    lt (a_up w8_K w8_n (some (.inl 17))) fun Km23 =>
    lt (zc Im19 w8_n 0) fun Im24 =>
    lt (zc Jm20 w8_n 0) fun Jm25 =>
    lt (zc w8_X w8_n none) fun Xm26 =>
    lt (w8_n + 1) fun n27 =>
    lt (w8_u + 1) fun u28 =>
    lt (w8_v + 2) fun v29 =>
    gdp (Km23 o = some (.inl 10)) <|
    (anyk fun k9 v9 => q_X13_single zz adS k9 v9 o p1 Km23 Im24 Jm25 Xm26 w8_A w8_B w8_Q n27).bind fun r31 =>
    gdp (u28 + r31.1 ≤ kf ∧ v29 + r31.2.1 ≤ kv) <|
    trs r31.2.2.1 (fun b34 =>
      gdp (r31.2.2.2.1 b34 = some (.inl 1)) <|
      gdp ((u28 + r31.1) = kf ∧ (v29 + r31.2.1) = kv) <|
      some (.inr (.inr ((.inl b34), r31.2.2.2.1, r31.2.2.2.2.1, r31.2.2.2.2.2.1, r31.2.2.2.2.2.2.1, r31.2.2.2.2.2.2.2.1, r31.2.2.2.2.2.2.2.2.1, r31.2.2.2.2.2.2.2.2.2.1, r31.2.2.2.2.2.2.2.2.2.2)))
      ) fun v33 =>
    gdp ((u28 + r31.1) ≤ kf ∧ (v29 + r31.2.1) ≤ kv) <|
    (w21_init zz adS w8_n w8_2 v33 r31.2.2.2.1 r31.2.2.2.2.1 r31.2.2.2.2.2.1 r31.2.2.2.2.2.2.1 r31.2.2.2.2.2.2.2.1 r31.2.2.2.2.2.2.2.2.1 r31.2.2.2.2.2.2.2.2.2.1 r31.2.2.2.2.2.2.2.2.2.2).bind fun r37 =>
    some (.inl (w8_n, r37.1, r37.2.1, r37.2.2.1, r37.2.2.2.1, r37.2.2.2.2.1, r37.2.2.2.2.2.1, r37.2.2.2.2.2.2.1, r37.2.2.2.2.2.2.2, (u28 + r31.1), (v29 + r31.2.1)))

noncomputable def wb13_both (q_X13_any : Nat → (Nat → Nat) → Nat → Nat → Nat → Int32 → gK → gI → gJ → gX → gI → gJ → gX → Nat → Option ((Nat ⊕ Nat) × gK × gI × gJ × gX × gI × gJ × gX × Nat)) (q_X13_both : Nat → (Nat → Nat) → Nat → Nat → Nat → Int32 → gK → gI → gJ → gX → gI → gJ → gX → Nat → Option ((Nat ⊕ Nat) × gK × gI × gJ × gX × gI × gJ × gX × Nat)) (q_X13_single : Nat → (Nat → Nat) → Nat → Nat → Nat → Int32 → gK → gI → gJ → gX → gI → gJ → gX → Nat → Option ((Nat ⊕ Nat) × gK × gI × gJ × gX × gI × gJ × gX × Nat)) (zz : Nat) (adS : Nat → Nat) (kf : Nat) (kv : Nat) (o : Nat) (p1 : Int32) (K : gK) (I : gI) (J : gJ) (X : gX) (A : gI) (B : gJ) (Q : gX) (n : Nat) : Option ((Nat ⊕ Nat) × gK × gI × gJ × gX × gI × gJ × gX × Nat) :=
  gdp (∃ a, K a ≠ none) <|
  gdp (K o = some (.inl 10)) <|
  (anyk fun k9 v9 => q_X13_single zz adS k9 v9 o p1 K I J X A B Q n).bind fun r2 =>
  gdp (0 + r2.1 ≤ kf ∧ 0 + r2.2.1 ≤ kv) <|
  trs r2.2.2.1 (fun b5 =>
    gdp (r2.2.2.2.1 b5 = some (.inl 1)) <|
    gdp ((0 + r2.1) = kf ∧ (0 + r2.2.1) = kv) <|
    some ((.inl b5), r2.2.2.2.1, r2.2.2.2.2.1, r2.2.2.2.2.2.1, r2.2.2.2.2.2.2.1, r2.2.2.2.2.2.2.2.1, r2.2.2.2.2.2.2.2.2.1, r2.2.2.2.2.2.2.2.2.2.1, r2.2.2.2.2.2.2.2.2.2.2)
    ) fun v4 =>
  (whl (fun (s8 : Nat × gK × gI × gJ × gX × gI × gJ × gX × Nat × Nat × Nat) => w13_both_s8 q_X13_single zz adS kf kv o p1 s8.1 s8.2.1 s8.2.2.1 s8.2.2.2.1 s8.2.2.2.2.1 s8.2.2.2.2.2.1 s8.2.2.2.2.2.2.1 s8.2.2.2.2.2.2.2.1 s8.2.2.2.2.2.2.2.2.1 s8.2.2.2.2.2.2.2.2.2.1 s8.2.2.2.2.2.2.2.2.2.2) FU (v4, r2.2.2.2.1, r2.2.2.2.2.1, r2.2.2.2.2.2.1, r2.2.2.2.2.2.2.1, r2.2.2.2.2.2.2.2.1, r2.2.2.2.2.2.2.2.2.1, r2.2.2.2.2.2.2.2.2.2.1, r2.2.2.2.2.2.2.2.2.2.2, (0 + r2.1), (0 + r2.2.1))).bind fun rl8 =>
  Sum.elim (w13_both_e8_0 kf kv) (w13_both_e8_1) rl8
noncomputable def w13_single_j78 (q_X13_any : Nat → (Nat → Nat) → Nat → Nat → Nat → Int32 → gK → gI → gJ → gX → gI → gJ → gX → Nat → Option ((Nat ⊕ Nat) × gK × gI × gJ × gX × gI × gJ × gX × Nat)) (q_X13_single : Nat → (Nat → Nat) → Nat → Nat → Nat → Int32 → gK → gI → gJ → gX → gI → gJ → gX → Nat → Option ((Nat ⊕ Nat) × gK × gI × gJ × gX × gI × gJ × gX × Nat)) (zz : Nat) (adS : Nat → Nat) (kf : Nat) (kv : Nat) (o : Nat) (p1 : Int32) (K : gK) (n : Nat) (r1 : Int32) (r5 : Int32) (r11 : Int32) (j53_J : gJ) (j53_X : gX) (j53_A : gI) (j53_B : gJ) (j53_Q : gX) (Im22 : gI) (j78_s0 : Int32) : Option ((Nat ⊕ Nat) × gK × gI × gJ × gX × gI × gJ × gX × Nat) :=
  (j53_X 1007 o).bind fun a29 =>
  gdp (Sh K j53_X a29 0 rows0) <|
  gdp (K (a29 + 2) = some (.inl 1)) <|
  gdp (j53_X 4 a29 = some (a29 + 2)) <|
  (f6_mustS j78_s0 (4 : Int32) (Im22 106 (a29 + 2)) (Im22 107 (a29 + 2)) (Im22 1002 o)).bind fun r28 =>
  tr r28.1 (
    lt ((ov Im22 [(106, (a29 + 2), r28.2.1), (107, (a29 + 2), r28.2.2)])) fun Im33 =>
    gdp (K (a29 + 2) = some (.inl 1)) <|
    gdp (0 = kf ∧ 0 = kv) <|
    some ((.inl (a29 + 2)), K, Im33, j53_J, j53_X, j53_A, j53_B, j53_Q, n)
    ) fun v34 =>
  lt ((ov Im22 [(106, (a29 + 2), r28.2.1), (107, (a29 + 2), r28.2.2)])) fun Im33 =>
  lt (Im33 1009 o) fun v38 =>
  lt (v38 + (1 : Int32)) fun v39 =>
  lt (i_up Im33 1009 o v39) fun Im40 =>
  (j53_X 1007 o).bind fun a42 =>
  gdp (Sh K j53_X a42 0 rows0) <|
  (f6_nextS (Im40 2 a42) (Im40 1000 o) (Im40 1001 o) (Im40 1002 o) (Im40 1003 o) (Im40 1004 o) (Im40 1005 o) (j53_J 1006 o) (j53_A (a42 + 1))).bind fun r41 =>
  lt ((ov Im40 [(1001, o, r41.1), (1002, o, r41.2.1), (1003, o, r41.2.2.1), (1004, o, r41.2.2.2.1), (1005, o, r41.2.2.2.2.1)])) fun Im44 =>
  lt ((ov j53_J [(1006, o, r41.2.2.2.2.2)])) fun Jm45 =>
  if r1 = 0 then
    if r5 = 0 then
      if r11 = (-1 : Int32) then
        gdp (freshz zz K n) <|
        gdp (0 + 1 ≤ kf ∧ 0 + 0 ≤ kv) <|
        lt (a_up K n (some (.inl 16))) fun Km51 =>
        lt (zc Im44 n 0) fun Im52 =>
        lt (zc Jm45 n 0) fun Jm53 =>
        lt (zc j53_X n none) fun Xm54 =>
        lt (n + 1) fun n55 =>
        lt (0 + 1) fun u56 =>
        lt (0 + 0) fun v57 =>
        gdp (u56 ≤ kf ∧ v57 ≤ kv) <|
        (w20_init zz adS n Km51 Im52 Jm53 Xm54 j53_A j53_B j53_Q n55).bind fun r58 =>
        gdp (u56 = kf ∧ v57 = kv) <|
        some ((.inr n), r58.1, r58.2.1, r58.2.2.1, r58.2.2.2.1, r58.2.2.2.2.1, r58.2.2.2.2.2.1, r58.2.2.2.2.2.2.1, r58.2.2.2.2.2.2.2)
      else
        gdp (0 + 1 ≤ kf ∧ 0 + 3 ≤ kv) <|
        (w13_counts zz adS o r11 K Im44 Jm45 j53_X j53_A j53_B j53_Q n).bind fun r61 =>
        trs r61.1 (fun b64 =>
          gdp (r61.2.1 b64 = some (.inl 1)) <|
          gdp ((0 + 1) = kf ∧ (0 + 3) = kv) <|
          some ((.inl b64), r61.2.1, r61.2.2.1, r61.2.2.2.1, r61.2.2.2.2.1, r61.2.2.2.2.2.1, r61.2.2.2.2.2.2.1, r61.2.2.2.2.2.2.2.1, r61.2.2.2.2.2.2.2.2)
          ) fun v63 =>
        gdp ((0 + 1) = kf ∧ (0 + 3) = kv) <|
        some ((.inr v63), r61.2.1, r61.2.2.1, r61.2.2.2.1, r61.2.2.2.2.1, r61.2.2.2.2.2.1, r61.2.2.2.2.2.2.1, r61.2.2.2.2.2.2.2.1, r61.2.2.2.2.2.2.2.2)
    else
      lt (p1 + (1 : Int32)) fun v68 =>
      (anyk fun k9 v9 => q_X13_any zz adS k9 v9 o v68 K Im44 Jm45 j53_X j53_A j53_B j53_Q n).bind fun r69 =>
      gdp (0 + r69.1 ≤ kf ∧ 0 + r69.2.1 ≤ kv) <|
      trs r69.2.2.1 (fun b72 =>
        gdp (r69.2.2.2.1 b72 = some (.inl 1)) <|
        gdp ((0 + r69.1) = kf ∧ (0 + r69.2.1) = kv) <|
        some ((.inl b72), r69.2.2.2.1, r69.2.2.2.2.1, r69.2.2.2.2.2.1, r69.2.2.2.2.2.2.1, r69.2.2.2.2.2.2.2.1, r69.2.2.2.2.2.2.2.2.1, r69.2.2.2.2.2.2.2.2.2.1, r69.2.2.2.2.2.2.2.2.2.2)
        ) fun v71 =>
      gdp ((0 + r69.1) ≤ kf ∧ (0 + r69.2.1) ≤ kv) <|
      (r69.2.2.2.2.2.2.1 1007 o).bind fun a77 =>
      gdp (Sh r69.2.2.2.1 r69.2.2.2.2.2.2.1 o 10 rows10) <|
      gdp (Sh r69.2.2.2.1 r69.2.2.2.2.2.2.1 a77 0 rows0) <|
      gdp (r69.2.2.2.1 (a77 + 2) = some (.inl 1)) <|
      gdp (r69.2.2.2.2.2.2.1 4 a77 = some (a77 + 2)) <|
      (f6_signS (41 : Int32) (r69.2.2.2.2.1 2 a77) (r69.2.2.2.2.1 106 (a77 + 2)) (r69.2.2.2.2.1 107 (a77 + 2)) (r69.2.2.2.2.1 1000 o) (r69.2.2.2.2.1 1001 o) (r69.2.2.2.2.1 1002 o) (r69.2.2.2.2.1 1003 o) (r69.2.2.2.2.1 1004 o) (r69.2.2.2.2.1 1005 o) (r69.2.2.2.2.2.1 1006 o) (r69.2.2.2.2.2.2.2.1 (a77 + 1))).bind fun r75 =>
      tr r75.1 (
        lt ((ov r69.2.2.2.2.1 [(106, (a77 + 2), r75.2.1), (107, (a77 + 2), r75.2.2.1), (1001, o, r75.2.2.2.1), (1002, o, r75.2.2.2.2.1), (1003, o, r75.2.2.2.2.2.1), (1004, o, r75.2.2.2.2.2.2.1), (1005, o, r75.2.2.2.2.2.2.2.1)])) fun Im82 =>
        lt ((ov r69.2.2.2.2.2.1 [(1006, o, r75.2.2.2.2.2.2.2.2)])) fun Jm83 =>
        gdp (r69.2.2.2.1 (a77 + 2) = some (.inl 1)) <|
        gdp ((0 + r69.1) = kf ∧ (0 + r69.2.1) = kv) <|
        some ((.inl (a77 + 2)), r69.2.2.2.1, Im82, Jm83, r69.2.2.2.2.2.2.1, r69.2.2.2.2.2.2.2.1, r69.2.2.2.2.2.2.2.2.1, r69.2.2.2.2.2.2.2.2.2.1, r69.2.2.2.2.2.2.2.2.2.2)
        ) fun v84 =>
      lt ((ov r69.2.2.2.2.1 [(106, (a77 + 2), r75.2.1), (107, (a77 + 2), r75.2.2.1), (1001, o, r75.2.2.2.1), (1002, o, r75.2.2.2.2.1), (1003, o, r75.2.2.2.2.2.1), (1004, o, r75.2.2.2.2.2.2.1), (1005, o, r75.2.2.2.2.2.2.2.1)])) fun Im82 =>
      lt ((ov r69.2.2.2.2.2.1 [(1006, o, r75.2.2.2.2.2.2.2.2)])) fun Jm83 =>
      gdp ((0 + r69.1) = kf ∧ (0 + r69.2.1) = kv) <|
      some ((.inr v71), r69.2.2.2.1, Im82, Jm83, r69.2.2.2.2.2.2.1, r69.2.2.2.2.2.2.2.1, r69.2.2.2.2.2.2.2.2.1, r69.2.2.2.2.2.2.2.2.2.1, r69.2.2.2.2.2.2.2.2.2.2)
  else
    gdp (freshz zz K n) <|
    gdp (0 + 1 ≤ kf ∧ 0 + 1 ≤ kv) <|
    lt (a_up K n (some (.inl 14))) fun Km91 =>
    lt (zc Im44 n 0) fun Im92 =>
    lt (zc Jm45 n 0) fun Jm93 =>
    lt (zc j53_X n none) fun Xm94 =>
    lt (n + 1) fun n95 =>
    lt (0 + 1) fun u96 =>
    lt (0 + 1) fun v97 =>
    lt (p1 + (1 : Int32)) fun v98 =>
    gdp (Km91 o = some (.inl 10)) <|
    (anyk fun k9 v9 => q_X13_single zz adS k9 v9 o v98 Km91 Im92 Jm93 Xm94 j53_A j53_B j53_Q n95).bind fun r100 =>
    gdp (u96 + r100.1 ≤ kf ∧ v97 + r100.2.1 ≤ kv) <|
    trs r100.2.2.1 (fun b103 =>
      gdp (r100.2.2.2.1 b103 = some (.inl 1)) <|
      gdp ((u96 + r100.1) = kf ∧ (v97 + r100.2.1) = kv) <|
      some ((.inl b103), r100.2.2.2.1, r100.2.2.2.2.1, r100.2.2.2.2.2.1, r100.2.2.2.2.2.2.1, r100.2.2.2.2.2.2.2.1, r100.2.2.2.2.2.2.2.2.1, r100.2.2.2.2.2.2.2.2.2.1, r100.2.2.2.2.2.2.2.2.2.2)
      ) fun v102 =>
    gdp ((u96 + r100.1) ≤ kf ∧ (v97 + r100.2.1) ≤ kv) <|
    (w18_init zz adS n v102 r100.2.2.2.1 r100.2.2.2.2.1 r100.2.2.2.2.2.1 r100.2.2.2.2.2.2.1 r100.2.2.2.2.2.2.2.1 r100.2.2.2.2.2.2.2.2.1 r100.2.2.2.2.2.2.2.2.2.1 r100.2.2.2.2.2.2.2.2.2.2).bind fun r106 =>
    gdp ((u96 + r100.1) = kf ∧ (v97 + r100.2.1) = kv) <|
    some ((.inr n), r106.1, r106.2.1, r106.2.2.1, r106.2.2.2.1, r106.2.2.2.2.1, r106.2.2.2.2.2.1, r106.2.2.2.2.2.2.1, r106.2.2.2.2.2.2.2)

noncomputable def w13_single_j77 (q_X13_any : Nat → (Nat → Nat) → Nat → Nat → Nat → Int32 → gK → gI → gJ → gX → gI → gJ → gX → Nat → Option ((Nat ⊕ Nat) × gK × gI × gJ × gX × gI × gJ × gX × Nat)) (q_X13_single : Nat → (Nat → Nat) → Nat → Nat → Nat → Int32 → gK → gI → gJ → gX → gI → gJ → gX → Nat → Option ((Nat ⊕ Nat) × gK × gI × gJ × gX × gI × gJ × gX × Nat)) (zz : Nat) (adS : Nat → Nat) (kf : Nat) (kv : Nat) (o : Nat) (p1 : Int32) (K : gK) (n : Nat) (r1 : Int32) (r5 : Int32) (r11 : Int32) (j53_J : gJ) (j53_X : gX) (j53_A : gI) (j53_B : gJ) (j53_Q : gX) (Im22 : gI) : Option ((Nat ⊕ Nat) × gK × gI × gJ × gX × gI × gJ × gX × Nat) :=
  w13_single_j78 q_X13_any q_X13_single zz adS kf kv o p1 K n r1 r5 r11 j53_J j53_X j53_A j53_B j53_Q Im22 (0 : Int32)

noncomputable def w13_single_j53 (q_X13_any : Nat → (Nat → Nat) → Nat → Nat → Nat → Int32 → gK → gI → gJ → gX → gI → gJ → gX → Nat → Option ((Nat ⊕ Nat) × gK × gI × gJ × gX × gI × gJ × gX × Nat)) (q_X13_single : Nat → (Nat → Nat) → Nat → Nat → Nat → Int32 → gK → gI → gJ → gX → gI → gJ → gX → Nat → Option ((Nat ⊕ Nat) × gK × gI × gJ × gX × gI × gJ × gX × Nat)) (zz : Nat) (adS : Nat → Nat) (kf : Nat) (kv : Nat) (o : Nat) (p1 : Int32) (K : gK) (n : Nat) (r1 : Int32) (r5 : Int32) (r11 : Int32) (j53_s0 : Int32) (j53_I : gI) (j53_J : gJ) (j53_X : gX) (j53_A : gI) (j53_B : gJ) (j53_Q : gX) : Option ((Nat ⊕ Nat) × gK × gI × gJ × gX × gI × gJ × gX × Nat) :=
  (j53_X 1007 o).bind fun a17 =>
  gdp (Sh K j53_X o 10 rows10) <|
  gdp (Sh K j53_X a17 0 rows0) <|
  gdp (K (a17 + 2) = some (.inl 1)) <|
  gdp (j53_X 4 a17 = some (a17 + 2)) <|
  (f6_mustS j53_s0 (1 : Int32) (j53_I 106 (a17 + 2)) (j53_I 107 (a17 + 2)) (j53_I 1002 o)).bind fun r16 =>
  tr r16.1 (
    lt ((ov j53_I [(106, (a17 + 2), r16.2.1), (107, (a17 + 2), r16.2.2)])) fun Im22 =>
    gdp (K (a17 + 2) = some (.inl 1)) <|
    gdp (0 = kf ∧ 0 = kv) <|
    some ((.inl (a17 + 2)), K, Im22, j53_J, j53_X, j53_A, j53_B, j53_Q, n)
    ) fun v23 =>
  lt ((ov j53_I [(106, (a17 + 2), r16.2.1), (107, (a17 + 2), r16.2.2)])) fun Im22 =>
  lt (Im22 1009 o) fun v27 =>
  if (20 : Int32) ≤ v27 then
    w13_single_j77 q_X13_any q_X13_single zz adS kf kv o p1 K n r1 r5 r11 j53_J j53_X j53_A j53_B j53_Q Im22
  else
    if (8 : Int32) < p1 then
      w13_single_j77 q_X13_any q_X13_single zz adS kf kv o p1 K n r1 r5 r11 j53_J j53_X j53_A j53_B j53_Q Im22
    else
      w13_single_j78 q_X13_any q_X13_single zz adS kf kv o p1 K n r1 r5 r11 j53_J j53_X j53_A j53_B j53_Q Im22 (1 : Int32)

noncomputable def w13_single_j48 (q_X13_any : Nat → (Nat → Nat) → Nat → Nat → Nat → Int32 → gK → gI → gJ → gX → gI → gJ → gX → Nat → Option ((Nat ⊕ Nat) × gK × gI × gJ × gX × gI × gJ × gX × Nat)) (q_X13_single : Nat → (Nat → Nat) → Nat → Nat → Nat → Int32 → gK → gI → gJ → gX → gI → gJ → gX → Nat → Option ((Nat ⊕ Nat) × gK × gI × gJ × gX × gI × gJ × gX × Nat)) (zz : Nat) (adS : Nat → Nat) (kf : Nat) (kv : Nat) (o : Nat) (p1 : Int32) (K : gK) (n : Nat) (r1 : Int32) (r5 : Int32) (r11 : Int32) (j48_I : gI) (j48_J : gJ) (j48_X : gX) (j48_A : gI) (j48_B : gJ) (j48_Q : gX) : Option ((Nat ⊕ Nat) × gK × gI × gJ × gX × gI × gJ × gX × Nat) :=
  w13_single_j53 q_X13_any q_X13_single zz adS kf kv o p1 K n r1 r5 r11 (1 : Int32) j48_I j48_J j48_X j48_A j48_B j48_Q

noncomputable def wb13_single (q_X13_any : Nat → (Nat → Nat) → Nat → Nat → Nat → Int32 → gK → gI → gJ → gX → gI → gJ → gX → Nat → Option ((Nat ⊕ Nat) × gK × gI × gJ × gX × gI × gJ × gX × Nat)) (q_X13_both : Nat → (Nat → Nat) → Nat → Nat → Nat → Int32 → gK → gI → gJ → gX → gI → gJ → gX → Nat → Option ((Nat ⊕ Nat) × gK × gI × gJ × gX × gI × gJ × gX × Nat)) (q_X13_single : Nat → (Nat → Nat) → Nat → Nat → Nat → Int32 → gK → gI → gJ → gX → gI → gJ → gX → Nat → Option ((Nat ⊕ Nat) × gK × gI × gJ × gX × gI × gJ × gX × Nat)) (zz : Nat) (adS : Nat → Nat) (kf : Nat) (kv : Nat) (o : Nat) (p1 : Int32) (K : gK) (I : gI) (J : gJ) (X : gX) (A : gI) (B : gJ) (Q : gX) (n : Nat) : Option ((Nat ⊕ Nat) × gK × gI × gJ × gX × gI × gJ × gX × Nat) :=
  gdp (∃ a, K a ≠ none) <|
  (X 1007 o).bind fun a2 =>
  gdp (Sh K X o 10 rows10) <|
  gdp (Sh K X a2 0 rows0) <|
  (f6_isS 22 (I 1002 o) (I 1003 o) (I 1005 o) (A (a2 + 1))).bind fun r1 =>
  (X 1007 o).bind fun a6 =>
  gdp (Sh K X a6 0 rows0) <|
  (f6_is_2S (40 : Int32) (I 1003 o) (I 1004 o)).bind fun r5 =>
  gdp (K o = some (.inl 10)) <|
  lt (X 1008 o) fun x9 =>
  (x9).bind fun a10 =>
  (X 1007 o).bind fun a12 =>
  gdp (Sh K X a12 0 rows0) <|
  gdp (K a10 = some (.inr (8, 5))) <|
  gdp (∀ j, j < 5 → Q a10 j = some (adS (24 + j))) <|
  (f6_findS 5 24 (I 1002 o) (I 1003 o) (I 1005 o) (A (a12 + 1))).bind fun r11 =>
  if r1 = 0 then
    if r5 = 0 then
      (X 1007 o).bind fun a114 =>
      gdp (Sh K X a114 0 rows0) <|
      (f6_isS 23 (I 1002 o) (I 1003 o) (I 1005 o) (A (a114 + 1))).bind fun r113 =>
      if r113 = 0 then
        if r11 = (-1 : Int32) then
          w13_single_j53 q_X13_any q_X13_single zz adS kf kv o p1 K n r1 r5 r11 (0 : Int32) I J X A B Q
        else
          w13_single_j48 q_X13_any q_X13_single zz adS kf kv o p1 K n r1 r5 r11 I J X A B Q
      else
        w13_single_j48 q_X13_any q_X13_single zz adS kf kv o p1 K n r1 r5 r11 I J X A B Q
    else
      w13_single_j48 q_X13_any q_X13_single zz adS kf kv o p1 K n r1 r5 r11 I J X A B Q
  else
    w13_single_j48 q_X13_any q_X13_single zz adS kf kv o p1 K n r1 r5 r11 I J X A B Q
noncomputable def wG_X13_any : Nat → (Nat → (Nat → Nat) → Nat → Nat → Nat → Int32 → gK → gI → gJ → gX → gI → gJ → gX → Nat → Option ((Nat ⊕ Nat) × gK × gI × gJ × gX × gI × gJ × gX × Nat)) × (Nat → (Nat → Nat) → Nat → Nat → Nat → Int32 → gK → gI → gJ → gX → gI → gJ → gX → Nat → Option ((Nat ⊕ Nat) × gK × gI × gJ × gX × gI × gJ × gX × Nat)) × (Nat → (Nat → Nat) → Nat → Nat → Nat → Int32 → gK → gI → gJ → gX → gI → gJ → gX → Nat → Option ((Nat ⊕ Nat) × gK × gI × gJ × gX × gI × gJ × gX × Nat))
  | 0 => (fun _ _ _ _ _ _ _ _ _ _ _ _ _ _ => none, fun _ _ _ _ _ _ _ _ _ _ _ _ _ _ => none, fun _ _ _ _ _ _ _ _ _ _ _ _ _ _ => none)
  | d + 1 => (wb13_any ((wG_X13_any d).1) ((wG_X13_any d).2.1) ((wG_X13_any d).2.2), wb13_both ((wG_X13_any d).1) ((wG_X13_any d).2.1) ((wG_X13_any d).2.2), wb13_single ((wG_X13_any d).1) ((wG_X13_any d).2.1) ((wG_X13_any d).2.2))
noncomputable def w13_any (d : Nat) : Nat → (Nat → Nat) → Nat → Nat → Nat → Int32 → gK → gI → gJ → gX → gI → gJ → gX → Nat → Option ((Nat ⊕ Nat) × gK × gI × gJ × gX × gI × gJ × gX × Nat) := (wG_X13_any d).1
noncomputable def w13_both (d : Nat) : Nat → (Nat → Nat) → Nat → Nat → Nat → Int32 → gK → gI → gJ → gX → gI → gJ → gX → Nat → Option ((Nat ⊕ Nat) × gK × gI × gJ × gX × gI × gJ × gX × Nat) := (wG_X13_any d).2.1
noncomputable def w13_single (d : Nat) : Nat → (Nat → Nat) → Nat → Nat → Nat → Int32 → gK → gI → gJ → gX → gI → gJ → gX → Nat → Option ((Nat ⊕ Nat) × gK × gI × gJ × gX × gI × gJ × gX × Nat) := (wG_X13_any d).2.2
set_option maxHeartbeats 4000000 in
theorem y13_any (l : Launch) (d : Nat) (q_X13_any : Nat → (Nat → Nat) → Nat → Nat → Nat → Int32 → gK → gI → gJ → gX → gI → gJ → gX → Nat → Option ((Nat ⊕ Nat) × gK × gI × gJ × gX × gI × gJ × gX × Nat)) (q_X13_both : Nat → (Nat → Nat) → Nat → Nat → Nat → Int32 → gK → gI → gJ → gX → gI → gJ → gX → Nat → Option ((Nat ⊕ Nat) × gK × gI × gJ × gX × gI × gJ × gX × Nat)) (q_X13_single : Nat → (Nat → Nat) → Nat → Nat → Nat → Int32 → gK → gI → gJ → gX → gI → gJ → gX → Nat → Option ((Nat ⊕ Nat) × gK × gI × gJ × gX × gI × gJ × gX × Nat)) (ih_X13_any : ∀ (G : gG) (K : gK) (I : gI) (J : gJ) (X : gX) (A : gI) (B : gJ) (Q : gX) (n : Nat) (kf kv : Nat) (o : Nat) (p1 : Int32) (out : (Nat ⊕ Nat) × gK × gI × gJ × gX × gI × gJ × gX × Nat) (hf : q_X13_any G.2.2 (aK G) kf kv o p1 K I J X A B Q n = some out) , GMetX l yX13_any cX13_any 3 (some (.object "PailRow$Cond")) (d + 6) (d * 25 + 129) G [.ref o, .int p1] K I J X A B Q (xsq "PailRow$Fault" out.1) out.2.1 out.2.2.1 out.2.2.2.1 out.2.2.2.2.1 out.2.2.2.2.2.1 out.2.2.2.2.2.2.1 out.2.2.2.2.2.2.2.1 kf kv) (ih_X13_both : ∀ (G : gG) (K : gK) (I : gI) (J : gJ) (X : gX) (A : gI) (B : gJ) (Q : gX) (n : Nat) (kf kv : Nat) (o : Nat) (p1 : Int32) (out : (Nat ⊕ Nat) × gK × gI × gJ × gX × gI × gJ × gX × Nat) (hf : q_X13_both G.2.2 (aK G) kf kv o p1 K I J X A B Q n = some out) , GMetX l yX13_both cX13_both 3 (some (.object "PailRow$Cond")) (d + 6) (d * 25 + 129) G [.ref o, .int p1] K I J X A B Q (xsq "PailRow$Fault" out.1) out.2.1 out.2.2.1 out.2.2.2.1 out.2.2.2.2.1 out.2.2.2.2.2.1 out.2.2.2.2.2.2.1 out.2.2.2.2.2.2.2.1 kf kv) (ih_X13_single : ∀ (G : gG) (K : gK) (I : gI) (J : gJ) (X : gX) (A : gI) (B : gJ) (Q : gX) (n : Nat) (kf kv : Nat) (o : Nat) (p1 : Int32) (out : (Nat ⊕ Nat) × gK × gI × gJ × gX × gI × gJ × gX × Nat) (hf : q_X13_single G.2.2 (aK G) kf kv o p1 K I J X A B Q n = some out) , GMetX l yX13_single cX13_single 6 (some (.object "PailRow$Cond")) (d + 6) (d * 25 + 129) G [.ref o, .int p1] K I J X A B Q (xsq "PailRow$Fault" out.1) out.2.1 out.2.2.1 out.2.2.2.1 out.2.2.2.2.1 out.2.2.2.2.2.1 out.2.2.2.2.2.2.1 out.2.2.2.2.2.2.2.1 kf kv) : ∀ (G : gG) (K : gK) (I : gI) (J : gJ) (X : gX) (A : gI) (B : gJ) (Q : gX) (n : Nat) (kf kv : Nat) (o : Nat) (p1 : Int32) (out : (Nat ⊕ Nat) × gK × gI × gJ × gX × gI × gJ × gX × Nat) (hf : wb13_any q_X13_any q_X13_both q_X13_single G.2.2 (aK G) kf kv o p1 K I J X A B Q n = some out), GMetX l yX13_any cX13_any 3 (some (.object "PailRow$Cond")) ((d + 1) + 6) ((d + 1) * 25 + 129) G [.ref o, .int p1] K I J X A B Q (xsq "PailRow$Fault" out.1) out.2.1 out.2.2.1 out.2.2.2.1 out.2.2.2.2.1 out.2.2.2.2.2.1 out.2.2.2.2.2.2.1 out.2.2.2.2.2.2.2.1 kf kv := by
  intro G K I J X A B Q n kf kv o p1 out hf
  refine GMetX.of (y := yX13_any) rfl (Nat.le_of_ble_eq_true rfl) (la := [(0, .ref o), (1, .int p1)]) rfl ?_
  intro p e s m below meth c ls hx hb hr hml hlocks hts hown hname ht hG hR hW hl
  have hown : s.vm.findClass RX13 = some m.cls := hown
  have hS : va_S (gA G) s.heap s.heap [] := va_S.rf
  have hz : (∃ a, K a ≠ none) → G.2.2 ≤ s.heap.size := fun ⟨a, h⟩ => Nat.le_of_lt (Nat.lt_of_le_of_lt (hR.ge h) (hR.lt h))
  have hend : ∀ (v : Nat), out.1 = .inr v → ∀ (pc : Nat) (H : Heap) (locs : List Loc) (ls : Array Slot), decode cX13_any pc = .ok (.areturn, 1) → RS G out.2.1 out.2.2.1 out.2.2.2.1 out.2.2.2.2.1 out.2.2.2.2.2.1 out.2.2.2.2.2.2.1 out.2.2.2.2.2.2.2.1 H → va_S (gA G) s.heap H locs → W p l e ({ frames := (d + 1) + 6, cells := kf, slots := kv, locals := (d + 1) * 25 + 129 } : Room) s m ([.ref o, .int p1] : List Value).toArray below meth c H locs kf kv (vx_MQ below (xQ G (xsq "PailRow$Fault" out.1) out.2.1 out.2.2.1 out.2.2.2.1 out.2.2.2.2.1 out.2.2.2.2.2.1 out.2.2.2.2.2.2.1 out.2.2.2.2.2.2.2.1) (xX G (xsq "PailRow$Fault" out.1) out.2.1 out.2.2.1 out.2.2.2.1 out.2.2.2.2.1 out.2.2.2.2.2.1 out.2.2.2.2.2.2.1 out.2.2.2.2.2.2.2.1) ([.ref o, .int p1] : List Value).toArray s kf kv (gA G)) (F0 m pc ls [.ref v]) := fun v hv pc H locs ls hd hR hS => x_aret (v := some v) hx hb hr (Or.inl ⟨_, rfl⟩) hlocks hG hR hS (by rw [hv]; rfl) hd
  have hthr : ∀ (b : Nat), out.1 = .inl b → ∀ (pc : Nat) (H : Heap) (locs : List Loc) (ls : Array Slot) (rest : List Value), out.2.1 b = some (.inl 1) → RS G out.2.1 out.2.2.1 out.2.2.2.1 out.2.2.2.2.1 out.2.2.2.2.2.1 out.2.2.2.2.2.2.1 out.2.2.2.2.2.2.2.1 H → va_S (gA G) s.heap H locs → vx_W p l e ({ frames := (d + 1) + 6, cells := kf, slots := kv, locals := (d + 1) * 25 + 129 } : Room) s m ([.ref o, .int p1] : List Value).toArray below meth c H locs kf kv (vx_MQ below (xQ G (xsq "PailRow$Fault" out.1) out.2.1 out.2.2.1 out.2.2.2.1 out.2.2.2.2.1 out.2.2.2.2.2.1 out.2.2.2.2.2.2.1 out.2.2.2.2.2.2.2.1) (xX G (xsq "PailRow$Fault" out.1) out.2.1 out.2.2.1 out.2.2.2.1 out.2.2.2.2.1 out.2.2.2.2.2.1 out.2.2.2.2.2.2.1 out.2.2.2.2.2.2.2.1) ([.ref o, .int p1] : List Value).toArray s kf kv (gA G)) (F0 m pc ls rest) b := fun b hn pc H locs ls rest hk hR hS => x_out (ci := 1) ht hlocks hG hR hS hk rfl (by rw [hn]; rfl)
  generalize vx_MQ below (xQ G (xsq "PailRow$Fault" out.1) out.2.1 out.2.2.1 out.2.2.2.1 out.2.2.2.2.1 out.2.2.2.2.2.1 out.2.2.2.2.2.2.1 out.2.2.2.2.2.2.2.1) (xX G (xsq "PailRow$Fault" out.1) out.2.1 out.2.2.1 out.2.2.2.1 out.2.2.2.2.1 out.2.2.2.2.2.1 out.2.2.2.2.2.2.1 out.2.2.2.2.2.2.2.1) ([.ref o, .int p1] : List Value).toArray s kf kv (gA G) = Z at hend hthr ⊢
  generalize ([.ref o, .int p1] : List Value).toArray = args at hts hend hthr ⊢
  unfold wb13_any at hf
  obtain ⟨k0, hf⟩ := gdp_some hf
  refine lv_aload_n hx hb dX13_any_0 rfl (lv_at hl 0 rfl) ?_
  refine lv_iload_n hx hb dX13_any_1 rfl (lv_at hl 1 rfl) ?_
  obtain ⟨k1, hf⟩ := gdp_some hf
  obtain ⟨r2, hr2, hf⟩ := bind_s hf
  replace hr2 := anyk_some hr2
  obtain ⟨c3, hf⟩ := gdp_some hf
  refine x_gosq (vx_runV (As := [.int p1]) (rest := []) (b := o) ⟨hx, hb, hml, hown, hts⟩ (ih_X13_both G K I J X A B Q n r2.1 r2.2.1 o p1 (r2.2.2) hr2) ⟨callB_of 1 hts (lw_meth q1423) rfl rfl rfl (hts _ q117) (hts _ q1420) (by decide +kernel) ⟨by dsimp only; omega, by dsimp only; omega⟩, hts _ q1422, hts _ qs31⟩ (x_preV hG hR hW hS k1 rfl) rfl rfl hl.1 rfl (lv_room (Nat.le_of_ble_eq_true rfl)) dX13_any_2 ⟨c3.1, c3.2⟩) hS (fun b5 H locs hnv4 hR hS => ?_) (fun v4 H locs hvv4 hR hS => ?_)
  · have hf := trs_l hnv4 hf
    obtain ⟨k6, hf⟩ := gdp_some hf
    obtain ⟨c7, hf⟩ := gdp_some hf
    refine vx_widen (Nat.le_of_eq c7.1) (Nat.le_of_eq c7.2) ?_
    obtain rfl := some_i hf
    exact hthr _ rfl _ _ _ _ _ k6 hR hS
  have hf := trs_r hvv4 hf
  refine lv_astore_n (lv' := [(2, .ref v4), (0, .ref o), (1, .int p1)]) hx hb dX13_any_5 rfl hl (by decide) (by first | rfl | simp [va_rf_c]) (fun ls hl => ?_)
  obtain ⟨rl8, hw8, hfo8⟩ := bind_s hf
  have hx8_0 : ∀ (x8_0 : Nat × gK × gI × gJ × gX × gI × gJ × gX × Nat × Nat × Nat), w13_any_e8_0 kf kv x8_0 = some out → ∀ (H : Heap) (locs : List Loc) (ls : Array Slot), RS G x8_0.2.1 x8_0.2.2.1 x8_0.2.2.2.1 x8_0.2.2.2.2.1 x8_0.2.2.2.2.2.1 x8_0.2.2.2.2.2.2.1 x8_0.2.2.2.2.2.2.2.1 H → va_S (gA G) s.heap H locs → lv_has ls 3 [(0, .ref o), (2, .ref x8_0.1)] → W p l e ({ frames := (d + 1) + 6, cells := kf, slots := kv, locals := (d + 1) * 25 + 129 } : Room) s m args below meth c H locs x8_0.2.2.2.2.2.2.2.2.2.1 x8_0.2.2.2.2.2.2.2.2.2.2 Z (F0 m 36 ls []) := by
    intro x8_0 hf H locs ls hR hS hl
    unfold w13_any_e8_0 at hf
    refine lv_aload_n hx hb dX13_any_36 rfl (lv_at hl 1 rfl) ?_
    obtain ⟨c9, hf⟩ := gdp_some hf
    refine W.widen (Nat.le_of_eq c9.1) (Nat.le_of_eq c9.2) ?_
    obtain rfl := some_i hf
    exact hend _ rfl _ _ _ _ dX13_any_37 hR hS
  have hx8_1 : ∀ (x8_1 : (Nat ⊕ Nat) × gK × gI × gJ × gX × gI × gJ × gX × Nat), w13_any_e8_1 x8_1 = some out → ∀ (v : Nat), x8_1.1 = .inr v → ∀ (pc : Nat) (H : Heap) (locs : List Loc) (ls : Array Slot), decode cX13_any pc = .ok (.areturn, 1) → RS G x8_1.2.1 x8_1.2.2.1 x8_1.2.2.2.1 x8_1.2.2.2.2.1 x8_1.2.2.2.2.2.1 x8_1.2.2.2.2.2.2.1 x8_1.2.2.2.2.2.2.2.1 H → va_S (gA G) s.heap H locs → W p l e ({ frames := (d + 1) + 6, cells := kf, slots := kv, locals := (d + 1) * 25 + 129 } : Room) s m args below meth c H locs kf kv Z (F0 m pc ls [.ref v]) := by
    intro x8_1 hf v hv pc H locs ls hd hR hS
    unfold w13_any_e8_1 at hf
    obtain rfl := some_i hf
    exact hend _ hv _ _ _ _ hd hR hS
  have hy8_1 : ∀ (x8_1 : (Nat ⊕ Nat) × gK × gI × gJ × gX × gI × gJ × gX × Nat), w13_any_e8_1 x8_1 = some out → ∀ (b : Nat), x8_1.1 = .inl b → ∀ (pc : Nat) (H : Heap) (locs : List Loc) (ls : Array Slot) (rest : List Value), x8_1.2.1 b = some (.inl 1) → RS G x8_1.2.1 x8_1.2.2.1 x8_1.2.2.2.1 x8_1.2.2.2.2.1 x8_1.2.2.2.2.2.1 x8_1.2.2.2.2.2.2.1 x8_1.2.2.2.2.2.2.2.1 H → va_S (gA G) s.heap H locs → vx_W p l e ({ frames := (d + 1) + 6, cells := kf, slots := kv, locals := (d + 1) * 25 + 129 } : Room) s m args below meth c H locs kf kv Z (F0 m pc ls rest) b := by
    intro x8_1 hf b hn pc H locs ls rest hk hR hS
    unfold w13_any_e8_1 at hf
    obtain rfl := some_i hf
    exact hthr _ hn _ _ _ _ _ hk hR hS
  refine whl_walk (P := fun (s8 : Nat × gK × gI × gJ × gX × gI × gJ × gX × Nat × Nat × Nat) => ∀ (H : Heap) (locs : List Loc) (ls : Array Slot), RS G s8.2.1 s8.2.2.1 s8.2.2.2.1 s8.2.2.2.2.1 s8.2.2.2.2.2.1 s8.2.2.2.2.2.2.1 s8.2.2.2.2.2.2.2.1 H → va_S (gA G) s.heap H locs → lv_has ls 3 [(0, .ref o), (1, .int p1), (2, .ref s8.1)] → W p l e ({ frames := (d + 1) + 6, cells := kf, slots := kv, locals := (d + 1) * 25 + 129 } : Room) s m args below meth c H locs s8.2.2.2.2.2.2.2.2.2.1 s8.2.2.2.2.2.2.2.2.2.2 Z (F0 m 6 ls [])) (r := rl8) ?_ FU _ hw8 _ _ _ hR hS (lv_sub hl [1, 2, 0] rfl)
  clear hR hS hl hf
  intro s8 o8 hf hk8 H locs ls hR hS hl
  obtain ⟨w8_2, w8_K, w8_I, w8_J, w8_X, w8_A, w8_B, w8_Q, w8_n, w8_u, w8_v⟩ := s8
  have hf : w13_any_s8 q_X13_both G.2.2 (aK G) kf kv o p1 w8_2 w8_K w8_I w8_J w8_X w8_A w8_B w8_Q w8_n w8_u w8_v = some o8 := hf
  have hR : RS G w8_K w8_I w8_J w8_X w8_A w8_B w8_Q H := hR
  have hl : lv_has ls 3 [(0, .ref o), (1, .int p1), (2, .ref w8_2)] := hl
  unfold w13_any_s8 at hf
  refine lv_aload_n hx hb dX13_any_6 rfl (lv_at hl 0 rfl) ?_
  refine b_ldcS (k := 20) (tx := "or") hx hb hown hW (by decide) dX13_any_7 ?_
  obtain ⟨c11, hf⟩ := gdp_some hf
  obtain ⟨a12, ha12, hf⟩ := bind_s hf
  obtain ⟨g13, hf⟩ := gdp_some hf
  obtain ⟨g14, hf⟩ := gdp_some hf
  obtain ⟨r10, hr10, hf⟩ := bind_s hf
  refine x0_gor (vx_runU (As := [.ref (aK G 20)]) (rest := []) (b := o) ⟨hx, hb, hml, hown, hts⟩ (m6_isS l G w8_K w8_I w8_J w8_X w8_A w8_B w8_Q o a12 g13 g14 ha12 20 (by decide) (w8_I 1002 o) (w8_I 1003 o) (w8_I 1005 o) (w8_A (a12 + 1)) rfl rfl rfl rfl r10 hr10) (va_cwU (x := ⟨"PailRow$SentenceReader", "is", "(Ljava/lang/String;)Z"⟩) (owner := "PailRow$Reader") 1 hts gu_X13_55_10 rfl rfl rfl rfl ⟨by decide +kernel, by decide +kernel, by decide +kernel⟩ ⟨by dsimp only; omega, by dsimp only; omega⟩) (x_preV hG hR hW hS g13.1 rfl) rfl rfl hl.1 rfl (lv_room (Nat.le_of_ble_eq_true rfl)) dX13_any_9 ⟨c11.1, c11.2⟩) hS (fun H locs hR hS => ?_)
  refine lv_if_eq (tgt := 36) hx hb dX13_any_12 (by decide) (fun c15 => ?_) (fun c15 => ?_)
  · have hf := ite_t c15 hf
    obtain rfl := some_i hf
    replace hk8 : _ = rl8 := hk8
    subst hk8
    exact hx8_0 (w8_2, w8_K, w8_I, w8_J, w8_X, w8_A, w8_B, w8_Q, w8_n, w8_u, w8_v) (el_l hfo8) _ _ _ hR hS (lv_sub hl [0, 2] rfl)
  · have hf := ite_f c15 hf
    refine lv_aload_n hx hb dX13_any_15 rfl (lv_at hl 0 rfl) ?_
    obtain ⟨a17, ha17, hf⟩ := bind_s hf
    obtain ⟨g18, hf⟩ := gdp_some hf
    obtain ⟨r16, hr16, hf⟩ := bind_s hf
    refine g0_cUv (rm := (3, 65)) (As := []) (rest := []) ⟨hx, hb, hml, hown, hts⟩ hG hR hS (m6_nextS l G w8_K w8_I w8_J w8_X w8_A w8_B w8_Q o a17 g13 g18 ha17 (w8_I 2 a17) (w8_I 1000 o) (w8_I 1001 o) (w8_I 1002 o) (w8_I 1003 o) (w8_I 1004 o) (w8_I 1005 o) (w8_J 1006 o) (w8_A (a17 + 1)) rfl rfl rfl rfl rfl rfl rfl rfl rfl r16 hr16) (va_cwU (x := ⟨"PailRow$SentenceReader", "next", "()V"⟩) (owner := "PailRow$Reader") 0 hts gu_X13_59_10 rfl rfl rfl rfl ⟨by decide +kernel, by decide +kernel, by decide +kernel⟩ ⟨by dsimp only; omega, by dsimp only; omega⟩) g13.1 rfl rfl hl.1 (Nat.le_of_ble_eq_true rfl) dX13_any_16 ⟨c11.1, c11.2⟩ rfl (fun H locs hR hS => ?_)
    obtain ⟨Im19, eIm19, hf⟩ := lt_some hf
    obtain ⟨Jm20, eJm20, hf⟩ := lt_some hf
    rw [← eIm19, ← eJm20] at hR
    obtain ⟨c21, hf⟩ := gdp_some hf
    obtain ⟨c22, hf⟩ := gdp_some hf
    refine s_new (n := w8_n) (ci := 18) (T := TX22) (N := 2) hx hb hts in_X22 tyX22 tyX22_ok hown (hts _ q1504) (hts _ q1505) (hts _ q134) hG hR c21 hS (hz k0) rfl (by decide) hdv_18 c22.1 c22.2 dX13_any_19 (fun H hR hS => ?_)
    obtain ⟨Km23, eKm23, hf⟩ := lt_some hf
    obtain ⟨Im24, eIm24, hf⟩ := lt_some hf
    obtain ⟨Jm25, eJm25, hf⟩ := lt_some hf
    obtain ⟨Xm26, eXm26, hf⟩ := lt_some hf
    rw [← eKm23, ← eIm24, ← eJm25, ← eXm26] at hR
    obtain ⟨n27, en27, hf⟩ := lt_some hf
    obtain ⟨u28, eu28, hf⟩ := lt_some hf
    obtain ⟨v29, ev29, hf⟩ := lt_some hf
    refine W.widen (k := u28) (n := v29) (Nat.le_of_eq eu28.symm) (Nat.le_of_eq ev29.symm) ?_
    refine lv_dup hx hb dX13_any_22 rfl ?_
    refine lv_aload_n hx hb dX13_any_23 rfl (lv_at hl 2 rfl) ?_
    refine lv_aload_n hx hb dX13_any_24 rfl (lv_at hl 0 rfl) ?_
    refine lv_iload_n hx hb dX13_any_25 rfl (lv_at hl 1 rfl) ?_
    obtain ⟨k30, hf⟩ := gdp_some hf
    obtain ⟨r31, hr31, hf⟩ := bind_s hf
    replace hr31 := anyk_some hr31
    obtain ⟨c32, hf⟩ := gdp_some hf
    refine x_gosq (vx_runV (As := [.int p1]) (rest := [.ref w8_2, .ref w8_n, .ref w8_n]) (b := o) ⟨hx, hb, hml, hown, hts⟩ (ih_X13_both G Km23 Im24 Jm25 Xm26 w8_A w8_B w8_Q n27 r31.1 r31.2.1 o p1 (r31.2.2) hr31) ⟨callB_of 1 hts (lw_meth q1423) rfl rfl rfl (hts _ q117) (hts _ q1420) (by decide +kernel) ⟨by dsimp only; omega, by dsimp only; omega⟩, hts _ q1422, hts _ qs31⟩ (x_preV hG hR hW hS k30 rfl) rfl rfl hl.1 rfl (lv_room (Nat.le_of_ble_eq_true rfl)) dX13_any_26 ⟨c32.1, c32.2⟩) hS (fun b34 H locs hnv33 hR hS => ?_) (fun v33 H locs hvv33 hR hS => ?_)
    · have hf := trs_l hnv33 hf
      obtain ⟨k35, hf⟩ := gdp_some hf
      obtain ⟨c36, hf⟩ := gdp_some hf
      refine vx_widen (Nat.le_of_eq c36.1) (Nat.le_of_eq c36.2) ?_
      obtain rfl := some_i hf
      replace hk8 : _ = rl8 := hk8
      subst hk8
      exact hy8_1 ((.inl b34), r31.2.2.2.1, r31.2.2.2.2.1, r31.2.2.2.2.2.1, r31.2.2.2.2.2.2.1, r31.2.2.2.2.2.2.2.1, r31.2.2.2.2.2.2.2.2.1, r31.2.2.2.2.2.2.2.2.2.1, r31.2.2.2.2.2.2.2.2.2.2) (el_r hfo8) _ rfl _ _ _ _ _ k35 hR hS
    have hf := trs_r hvv33 hf
    obtain ⟨c38, hf⟩ := gdp_some hf
    obtain ⟨r37, hr37, hf⟩ := bind_s hf
    refine x0_gor (vx_runI (As := [.ref w8_2, .ref v33]) (rest := [.ref w8_n]) (b := w8_n) ⟨hx, hb, hml, hown, hts⟩ (m22_init_w l G r31.2.2.2.1 r31.2.2.2.2.1 r31.2.2.2.2.2.1 r31.2.2.2.2.2.2.1 r31.2.2.2.2.2.2.2.1 r31.2.2.2.2.2.2.2.2.1 r31.2.2.2.2.2.2.2.2.2.1 r31.2.2.2.2.2.2.2.2.2.2 w8_n w8_2 v33 r37 hr37) ⟨callB_of 2 hts (lw_meth q1508) rfl rfl rfl (hts _ q134) (hts _ q1506) (by decide +kernel) ⟨by dsimp only; omega, by dsimp only; omega⟩, rfl, hts _ q1507⟩ (x_preS hG hR hW hS) rfl rfl hl.1 rfl (lv_room (Nat.le_of_ble_eq_true rfl)) dX13_any_29 ⟨c38.1, c38.2⟩) hS (fun H locs hR hS => ?_)
    refine lv_astore_n (lv' := [(2, .ref w8_n), (0, .ref o), (1, .int p1)]) hx hb dX13_any_32 rfl hl (by decide) (by first | rfl | simp [va_rf_c]) (fun ls hl => ?_)
    refine lv_goto (tgt := 6) hx hb dX13_any_33 (by decide) ?_
    obtain rfl := some_i hf
    exact hk8 _ _ _ hR hS (lv_sub hl [1, 2, 0] rfl)
set_option maxHeartbeats 4000000 in
theorem y13_both (l : Launch) (d : Nat) (q_X13_any : Nat → (Nat → Nat) → Nat → Nat → Nat → Int32 → gK → gI → gJ → gX → gI → gJ → gX → Nat → Option ((Nat ⊕ Nat) × gK × gI × gJ × gX × gI × gJ × gX × Nat)) (q_X13_both : Nat → (Nat → Nat) → Nat → Nat → Nat → Int32 → gK → gI → gJ → gX → gI → gJ → gX → Nat → Option ((Nat ⊕ Nat) × gK × gI × gJ × gX × gI × gJ × gX × Nat)) (q_X13_single : Nat → (Nat → Nat) → Nat → Nat → Nat → Int32 → gK → gI → gJ → gX → gI → gJ → gX → Nat → Option ((Nat ⊕ Nat) × gK × gI × gJ × gX × gI × gJ × gX × Nat)) (ih_X13_any : ∀ (G : gG) (K : gK) (I : gI) (J : gJ) (X : gX) (A : gI) (B : gJ) (Q : gX) (n : Nat) (kf kv : Nat) (o : Nat) (p1 : Int32) (out : (Nat ⊕ Nat) × gK × gI × gJ × gX × gI × gJ × gX × Nat) (hf : q_X13_any G.2.2 (aK G) kf kv o p1 K I J X A B Q n = some out) , GMetX l yX13_any cX13_any 3 (some (.object "PailRow$Cond")) (d + 6) (d * 25 + 129) G [.ref o, .int p1] K I J X A B Q (xsq "PailRow$Fault" out.1) out.2.1 out.2.2.1 out.2.2.2.1 out.2.2.2.2.1 out.2.2.2.2.2.1 out.2.2.2.2.2.2.1 out.2.2.2.2.2.2.2.1 kf kv) (ih_X13_both : ∀ (G : gG) (K : gK) (I : gI) (J : gJ) (X : gX) (A : gI) (B : gJ) (Q : gX) (n : Nat) (kf kv : Nat) (o : Nat) (p1 : Int32) (out : (Nat ⊕ Nat) × gK × gI × gJ × gX × gI × gJ × gX × Nat) (hf : q_X13_both G.2.2 (aK G) kf kv o p1 K I J X A B Q n = some out) , GMetX l yX13_both cX13_both 3 (some (.object "PailRow$Cond")) (d + 6) (d * 25 + 129) G [.ref o, .int p1] K I J X A B Q (xsq "PailRow$Fault" out.1) out.2.1 out.2.2.1 out.2.2.2.1 out.2.2.2.2.1 out.2.2.2.2.2.1 out.2.2.2.2.2.2.1 out.2.2.2.2.2.2.2.1 kf kv) (ih_X13_single : ∀ (G : gG) (K : gK) (I : gI) (J : gJ) (X : gX) (A : gI) (B : gJ) (Q : gX) (n : Nat) (kf kv : Nat) (o : Nat) (p1 : Int32) (out : (Nat ⊕ Nat) × gK × gI × gJ × gX × gI × gJ × gX × Nat) (hf : q_X13_single G.2.2 (aK G) kf kv o p1 K I J X A B Q n = some out) , GMetX l yX13_single cX13_single 6 (some (.object "PailRow$Cond")) (d + 6) (d * 25 + 129) G [.ref o, .int p1] K I J X A B Q (xsq "PailRow$Fault" out.1) out.2.1 out.2.2.1 out.2.2.2.1 out.2.2.2.2.1 out.2.2.2.2.2.1 out.2.2.2.2.2.2.1 out.2.2.2.2.2.2.2.1 kf kv) : ∀ (G : gG) (K : gK) (I : gI) (J : gJ) (X : gX) (A : gI) (B : gJ) (Q : gX) (n : Nat) (kf kv : Nat) (o : Nat) (p1 : Int32) (out : (Nat ⊕ Nat) × gK × gI × gJ × gX × gI × gJ × gX × Nat) (hf : wb13_both q_X13_any q_X13_both q_X13_single G.2.2 (aK G) kf kv o p1 K I J X A B Q n = some out), GMetX l yX13_both cX13_both 3 (some (.object "PailRow$Cond")) ((d + 1) + 6) ((d + 1) * 25 + 129) G [.ref o, .int p1] K I J X A B Q (xsq "PailRow$Fault" out.1) out.2.1 out.2.2.1 out.2.2.2.1 out.2.2.2.2.1 out.2.2.2.2.2.1 out.2.2.2.2.2.2.1 out.2.2.2.2.2.2.2.1 kf kv := by
  intro G K I J X A B Q n kf kv o p1 out hf
  refine GMetX.of (y := yX13_both) rfl (Nat.le_of_ble_eq_true rfl) (la := [(0, .ref o), (1, .int p1)]) rfl ?_
  intro p e s m below meth c ls hx hb hr hml hlocks hts hown hname ht hG hR hW hl
  have hown : s.vm.findClass RX13 = some m.cls := hown
  have hS : va_S (gA G) s.heap s.heap [] := va_S.rf
  have hz : (∃ a, K a ≠ none) → G.2.2 ≤ s.heap.size := fun ⟨a, h⟩ => Nat.le_of_lt (Nat.lt_of_le_of_lt (hR.ge h) (hR.lt h))
  have hend : ∀ (v : Nat), out.1 = .inr v → ∀ (pc : Nat) (H : Heap) (locs : List Loc) (ls : Array Slot), decode cX13_both pc = .ok (.areturn, 1) → RS G out.2.1 out.2.2.1 out.2.2.2.1 out.2.2.2.2.1 out.2.2.2.2.2.1 out.2.2.2.2.2.2.1 out.2.2.2.2.2.2.2.1 H → va_S (gA G) s.heap H locs → W p l e ({ frames := (d + 1) + 6, cells := kf, slots := kv, locals := (d + 1) * 25 + 129 } : Room) s m ([.ref o, .int p1] : List Value).toArray below meth c H locs kf kv (vx_MQ below (xQ G (xsq "PailRow$Fault" out.1) out.2.1 out.2.2.1 out.2.2.2.1 out.2.2.2.2.1 out.2.2.2.2.2.1 out.2.2.2.2.2.2.1 out.2.2.2.2.2.2.2.1) (xX G (xsq "PailRow$Fault" out.1) out.2.1 out.2.2.1 out.2.2.2.1 out.2.2.2.2.1 out.2.2.2.2.2.1 out.2.2.2.2.2.2.1 out.2.2.2.2.2.2.2.1) ([.ref o, .int p1] : List Value).toArray s kf kv (gA G)) (F0 m pc ls [.ref v]) := fun v hv pc H locs ls hd hR hS => x_aret (v := some v) hx hb hr (Or.inl ⟨_, rfl⟩) hlocks hG hR hS (by rw [hv]; rfl) hd
  have hthr : ∀ (b : Nat), out.1 = .inl b → ∀ (pc : Nat) (H : Heap) (locs : List Loc) (ls : Array Slot) (rest : List Value), out.2.1 b = some (.inl 1) → RS G out.2.1 out.2.2.1 out.2.2.2.1 out.2.2.2.2.1 out.2.2.2.2.2.1 out.2.2.2.2.2.2.1 out.2.2.2.2.2.2.2.1 H → va_S (gA G) s.heap H locs → vx_W p l e ({ frames := (d + 1) + 6, cells := kf, slots := kv, locals := (d + 1) * 25 + 129 } : Room) s m ([.ref o, .int p1] : List Value).toArray below meth c H locs kf kv (vx_MQ below (xQ G (xsq "PailRow$Fault" out.1) out.2.1 out.2.2.1 out.2.2.2.1 out.2.2.2.2.1 out.2.2.2.2.2.1 out.2.2.2.2.2.2.1 out.2.2.2.2.2.2.2.1) (xX G (xsq "PailRow$Fault" out.1) out.2.1 out.2.2.1 out.2.2.2.1 out.2.2.2.2.1 out.2.2.2.2.2.1 out.2.2.2.2.2.2.1 out.2.2.2.2.2.2.2.1) ([.ref o, .int p1] : List Value).toArray s kf kv (gA G)) (F0 m pc ls rest) b := fun b hn pc H locs ls rest hk hR hS => x_out (ci := 1) ht hlocks hG hR hS hk rfl (by rw [hn]; rfl)
  generalize vx_MQ below (xQ G (xsq "PailRow$Fault" out.1) out.2.1 out.2.2.1 out.2.2.2.1 out.2.2.2.2.1 out.2.2.2.2.2.1 out.2.2.2.2.2.2.1 out.2.2.2.2.2.2.2.1) (xX G (xsq "PailRow$Fault" out.1) out.2.1 out.2.2.1 out.2.2.2.1 out.2.2.2.2.1 out.2.2.2.2.2.1 out.2.2.2.2.2.2.1 out.2.2.2.2.2.2.2.1) ([.ref o, .int p1] : List Value).toArray s kf kv (gA G) = Z at hend hthr ⊢
  generalize ([.ref o, .int p1] : List Value).toArray = args at hts hend hthr ⊢
  unfold wb13_both at hf
  obtain ⟨k0, hf⟩ := gdp_some hf
  refine lv_aload_n hx hb dX13_both_0 rfl (lv_at hl 0 rfl) ?_
  refine lv_iload_n hx hb dX13_both_1 rfl (lv_at hl 1 rfl) ?_
  obtain ⟨k1, hf⟩ := gdp_some hf
  obtain ⟨r2, hr2, hf⟩ := bind_s hf
  replace hr2 := anyk_some hr2
  obtain ⟨c3, hf⟩ := gdp_some hf
  refine x_gosq (vx_runV (As := [.int p1]) (rest := []) (b := o) ⟨hx, hb, hml, hown, hts⟩ (ih_X13_single G K I J X A B Q n r2.1 r2.2.1 o p1 (r2.2.2) hr2) ⟨callB_of 1 hts (lw_meth q1427) rfl rfl rfl (hts _ q117) (hts _ q1424) (by decide +kernel) ⟨by dsimp only; omega, by dsimp only; omega⟩, hts _ q1426, hts _ qs32⟩ (x_preV hG hR hW hS k1 rfl) rfl rfl hl.1 rfl (lv_room (Nat.le_of_ble_eq_true rfl)) dX13_both_2 ⟨c3.1, c3.2⟩) hS (fun b5 H locs hnv4 hR hS => ?_) (fun v4 H locs hvv4 hR hS => ?_)
  · have hf := trs_l hnv4 hf
    obtain ⟨k6, hf⟩ := gdp_some hf
    obtain ⟨c7, hf⟩ := gdp_some hf
    refine vx_widen (Nat.le_of_eq c7.1) (Nat.le_of_eq c7.2) ?_
    obtain rfl := some_i hf
    exact hthr _ rfl _ _ _ _ _ k6 hR hS
  have hf := trs_r hvv4 hf
  refine lv_astore_n (lv' := [(2, .ref v4), (0, .ref o), (1, .int p1)]) hx hb dX13_both_5 rfl hl (by decide) (by first | rfl | simp [va_rf_c]) (fun ls hl => ?_)
  obtain ⟨rl8, hw8, hfo8⟩ := bind_s hf
  have hx8_0 : ∀ (x8_0 : Nat × gK × gI × gJ × gX × gI × gJ × gX × Nat × Nat × Nat), w13_both_e8_0 kf kv x8_0 = some out → ∀ (H : Heap) (locs : List Loc) (ls : Array Slot), RS G x8_0.2.1 x8_0.2.2.1 x8_0.2.2.2.1 x8_0.2.2.2.2.1 x8_0.2.2.2.2.2.1 x8_0.2.2.2.2.2.2.1 x8_0.2.2.2.2.2.2.2.1 H → va_S (gA G) s.heap H locs → lv_has ls 3 [(0, .ref o), (2, .ref x8_0.1)] → W p l e ({ frames := (d + 1) + 6, cells := kf, slots := kv, locals := (d + 1) * 25 + 129 } : Room) s m args below meth c H locs x8_0.2.2.2.2.2.2.2.2.2.1 x8_0.2.2.2.2.2.2.2.2.2.2 Z (F0 m 36 ls []) := by
    intro x8_0 hf H locs ls hR hS hl
    unfold w13_both_e8_0 at hf
    refine lv_aload_n hx hb dX13_both_36 rfl (lv_at hl 1 rfl) ?_
    obtain ⟨c9, hf⟩ := gdp_some hf
    refine W.widen (Nat.le_of_eq c9.1) (Nat.le_of_eq c9.2) ?_
    obtain rfl := some_i hf
    exact hend _ rfl _ _ _ _ dX13_both_37 hR hS
  have hx8_1 : ∀ (x8_1 : (Nat ⊕ Nat) × gK × gI × gJ × gX × gI × gJ × gX × Nat), w13_both_e8_1 x8_1 = some out → ∀ (v : Nat), x8_1.1 = .inr v → ∀ (pc : Nat) (H : Heap) (locs : List Loc) (ls : Array Slot), decode cX13_both pc = .ok (.areturn, 1) → RS G x8_1.2.1 x8_1.2.2.1 x8_1.2.2.2.1 x8_1.2.2.2.2.1 x8_1.2.2.2.2.2.1 x8_1.2.2.2.2.2.2.1 x8_1.2.2.2.2.2.2.2.1 H → va_S (gA G) s.heap H locs → W p l e ({ frames := (d + 1) + 6, cells := kf, slots := kv, locals := (d + 1) * 25 + 129 } : Room) s m args below meth c H locs kf kv Z (F0 m pc ls [.ref v]) := by
    intro x8_1 hf v hv pc H locs ls hd hR hS
    unfold w13_both_e8_1 at hf
    obtain rfl := some_i hf
    exact hend _ hv _ _ _ _ hd hR hS
  have hy8_1 : ∀ (x8_1 : (Nat ⊕ Nat) × gK × gI × gJ × gX × gI × gJ × gX × Nat), w13_both_e8_1 x8_1 = some out → ∀ (b : Nat), x8_1.1 = .inl b → ∀ (pc : Nat) (H : Heap) (locs : List Loc) (ls : Array Slot) (rest : List Value), x8_1.2.1 b = some (.inl 1) → RS G x8_1.2.1 x8_1.2.2.1 x8_1.2.2.2.1 x8_1.2.2.2.2.1 x8_1.2.2.2.2.2.1 x8_1.2.2.2.2.2.2.1 x8_1.2.2.2.2.2.2.2.1 H → va_S (gA G) s.heap H locs → vx_W p l e ({ frames := (d + 1) + 6, cells := kf, slots := kv, locals := (d + 1) * 25 + 129 } : Room) s m args below meth c H locs kf kv Z (F0 m pc ls rest) b := by
    intro x8_1 hf b hn pc H locs ls rest hk hR hS
    unfold w13_both_e8_1 at hf
    obtain rfl := some_i hf
    exact hthr _ hn _ _ _ _ _ hk hR hS
  refine whl_walk (P := fun (s8 : Nat × gK × gI × gJ × gX × gI × gJ × gX × Nat × Nat × Nat) => ∀ (H : Heap) (locs : List Loc) (ls : Array Slot), RS G s8.2.1 s8.2.2.1 s8.2.2.2.1 s8.2.2.2.2.1 s8.2.2.2.2.2.1 s8.2.2.2.2.2.2.1 s8.2.2.2.2.2.2.2.1 H → va_S (gA G) s.heap H locs → lv_has ls 3 [(0, .ref o), (1, .int p1), (2, .ref s8.1)] → W p l e ({ frames := (d + 1) + 6, cells := kf, slots := kv, locals := (d + 1) * 25 + 129 } : Room) s m args below meth c H locs s8.2.2.2.2.2.2.2.2.2.1 s8.2.2.2.2.2.2.2.2.2.2 Z (F0 m 6 ls [])) (r := rl8) ?_ FU _ hw8 _ _ _ hR hS (lv_sub hl [1, 2, 0] rfl)
  clear hR hS hl hf
  intro s8 o8 hf hk8 H locs ls hR hS hl
  obtain ⟨w8_2, w8_K, w8_I, w8_J, w8_X, w8_A, w8_B, w8_Q, w8_n, w8_u, w8_v⟩ := s8
  have hf : w13_both_s8 q_X13_single G.2.2 (aK G) kf kv o p1 w8_2 w8_K w8_I w8_J w8_X w8_A w8_B w8_Q w8_n w8_u w8_v = some o8 := hf
  have hR : RS G w8_K w8_I w8_J w8_X w8_A w8_B w8_Q H := hR
  have hl : lv_has ls 3 [(0, .ref o), (1, .int p1), (2, .ref w8_2)] := hl
  unfold w13_both_s8 at hf
  refine lv_aload_n hx hb dX13_both_6 rfl (lv_at hl 0 rfl) ?_
  refine b_ldcS (k := 21) (tx := "and") hx hb hown hW (by decide) dX13_both_7 ?_
  obtain ⟨c11, hf⟩ := gdp_some hf
  obtain ⟨a12, ha12, hf⟩ := bind_s hf
  obtain ⟨g13, hf⟩ := gdp_some hf
  obtain ⟨g14, hf⟩ := gdp_some hf
  obtain ⟨r10, hr10, hf⟩ := bind_s hf
  refine x0_gor (vx_runU (As := [.ref (aK G 21)]) (rest := []) (b := o) ⟨hx, hb, hml, hown, hts⟩ (m6_isS l G w8_K w8_I w8_J w8_X w8_A w8_B w8_Q o a12 g13 g14 ha12 21 (by decide) (w8_I 1002 o) (w8_I 1003 o) (w8_I 1005 o) (w8_A (a12 + 1)) rfl rfl rfl rfl r10 hr10) (va_cwU (x := ⟨"PailRow$SentenceReader", "is", "(Ljava/lang/String;)Z"⟩) (owner := "PailRow$Reader") 1 hts gu_X13_55_10 rfl rfl rfl rfl ⟨by decide +kernel, by decide +kernel, by decide +kernel⟩ ⟨by dsimp only; omega, by dsimp only; omega⟩) (x_preV hG hR hW hS g13.1 rfl) rfl rfl hl.1 rfl (lv_room (Nat.le_of_ble_eq_true rfl)) dX13_both_9 ⟨c11.1, c11.2⟩) hS (fun H locs hR hS => ?_)
  refine lv_if_eq (tgt := 36) hx hb dX13_both_12 (by decide) (fun c15 => ?_) (fun c15 => ?_)
  · have hf := ite_t c15 hf
    obtain rfl := some_i hf
    replace hk8 : _ = rl8 := hk8
    subst hk8
    exact hx8_0 (w8_2, w8_K, w8_I, w8_J, w8_X, w8_A, w8_B, w8_Q, w8_n, w8_u, w8_v) (el_l hfo8) _ _ _ hR hS (lv_sub hl [0, 2] rfl)
  · have hf := ite_f c15 hf
    refine lv_aload_n hx hb dX13_both_15 rfl (lv_at hl 0 rfl) ?_
    obtain ⟨a17, ha17, hf⟩ := bind_s hf
    obtain ⟨g18, hf⟩ := gdp_some hf
    obtain ⟨r16, hr16, hf⟩ := bind_s hf
    refine g0_cUv (rm := (3, 65)) (As := []) (rest := []) ⟨hx, hb, hml, hown, hts⟩ hG hR hS (m6_nextS l G w8_K w8_I w8_J w8_X w8_A w8_B w8_Q o a17 g13 g18 ha17 (w8_I 2 a17) (w8_I 1000 o) (w8_I 1001 o) (w8_I 1002 o) (w8_I 1003 o) (w8_I 1004 o) (w8_I 1005 o) (w8_J 1006 o) (w8_A (a17 + 1)) rfl rfl rfl rfl rfl rfl rfl rfl rfl r16 hr16) (va_cwU (x := ⟨"PailRow$SentenceReader", "next", "()V"⟩) (owner := "PailRow$Reader") 0 hts gu_X13_59_10 rfl rfl rfl rfl ⟨by decide +kernel, by decide +kernel, by decide +kernel⟩ ⟨by dsimp only; omega, by dsimp only; omega⟩) g13.1 rfl rfl hl.1 (Nat.le_of_ble_eq_true rfl) dX13_both_16 ⟨c11.1, c11.2⟩ rfl (fun H locs hR hS => ?_)
    obtain ⟨Im19, eIm19, hf⟩ := lt_some hf
    obtain ⟨Jm20, eJm20, hf⟩ := lt_some hf
    rw [← eIm19, ← eJm20] at hR
    obtain ⟨c21, hf⟩ := gdp_some hf
    obtain ⟨c22, hf⟩ := gdp_some hf
    refine s_new (n := w8_n) (ci := 17) (T := TX21) (N := 2) hx hb hts in_X21 tyX21 tyX21_ok hown (hts _ q1490) (hts _ q1491) (hts _ q133) hG hR c21 hS (hz k0) rfl (by decide) hdv_17 c22.1 c22.2 dX13_both_19 (fun H hR hS => ?_)
    obtain ⟨Km23, eKm23, hf⟩ := lt_some hf
    obtain ⟨Im24, eIm24, hf⟩ := lt_some hf
    obtain ⟨Jm25, eJm25, hf⟩ := lt_some hf
    obtain ⟨Xm26, eXm26, hf⟩ := lt_some hf
    rw [← eKm23, ← eIm24, ← eJm25, ← eXm26] at hR
    obtain ⟨n27, en27, hf⟩ := lt_some hf
    obtain ⟨u28, eu28, hf⟩ := lt_some hf
    obtain ⟨v29, ev29, hf⟩ := lt_some hf
    refine W.widen (k := u28) (n := v29) (Nat.le_of_eq eu28.symm) (Nat.le_of_eq ev29.symm) ?_
    refine lv_dup hx hb dX13_both_22 rfl ?_
    refine lv_aload_n hx hb dX13_both_23 rfl (lv_at hl 2 rfl) ?_
    refine lv_aload_n hx hb dX13_both_24 rfl (lv_at hl 0 rfl) ?_
    refine lv_iload_n hx hb dX13_both_25 rfl (lv_at hl 1 rfl) ?_
    obtain ⟨k30, hf⟩ := gdp_some hf
    obtain ⟨r31, hr31, hf⟩ := bind_s hf
    replace hr31 := anyk_some hr31
    obtain ⟨c32, hf⟩ := gdp_some hf
    refine x_gosq (vx_runV (As := [.int p1]) (rest := [.ref w8_2, .ref w8_n, .ref w8_n]) (b := o) ⟨hx, hb, hml, hown, hts⟩ (ih_X13_single G Km23 Im24 Jm25 Xm26 w8_A w8_B w8_Q n27 r31.1 r31.2.1 o p1 (r31.2.2) hr31) ⟨callB_of 1 hts (lw_meth q1427) rfl rfl rfl (hts _ q117) (hts _ q1424) (by decide +kernel) ⟨by dsimp only; omega, by dsimp only; omega⟩, hts _ q1426, hts _ qs32⟩ (x_preV hG hR hW hS k30 rfl) rfl rfl hl.1 rfl (lv_room (Nat.le_of_ble_eq_true rfl)) dX13_both_26 ⟨c32.1, c32.2⟩) hS (fun b34 H locs hnv33 hR hS => ?_) (fun v33 H locs hvv33 hR hS => ?_)
    · have hf := trs_l hnv33 hf
      obtain ⟨k35, hf⟩ := gdp_some hf
      obtain ⟨c36, hf⟩ := gdp_some hf
      refine vx_widen (Nat.le_of_eq c36.1) (Nat.le_of_eq c36.2) ?_
      obtain rfl := some_i hf
      replace hk8 : _ = rl8 := hk8
      subst hk8
      exact hy8_1 ((.inl b34), r31.2.2.2.1, r31.2.2.2.2.1, r31.2.2.2.2.2.1, r31.2.2.2.2.2.2.1, r31.2.2.2.2.2.2.2.1, r31.2.2.2.2.2.2.2.2.1, r31.2.2.2.2.2.2.2.2.2.1, r31.2.2.2.2.2.2.2.2.2.2) (el_r hfo8) _ rfl _ _ _ _ _ k35 hR hS
    have hf := trs_r hvv33 hf
    obtain ⟨c38, hf⟩ := gdp_some hf
    obtain ⟨r37, hr37, hf⟩ := bind_s hf
    refine x0_gor (vx_runI (As := [.ref w8_2, .ref v33]) (rest := [.ref w8_n]) (b := w8_n) ⟨hx, hb, hml, hown, hts⟩ (m21_init_w l G r31.2.2.2.1 r31.2.2.2.2.1 r31.2.2.2.2.2.1 r31.2.2.2.2.2.2.1 r31.2.2.2.2.2.2.2.1 r31.2.2.2.2.2.2.2.2.1 r31.2.2.2.2.2.2.2.2.2.1 r31.2.2.2.2.2.2.2.2.2.2 w8_n w8_2 v33 r37 hr37) ⟨callB_of 2 hts (lw_meth q1494) rfl rfl rfl (hts _ q133) (hts _ q1492) (by decide +kernel) ⟨by dsimp only; omega, by dsimp only; omega⟩, rfl, hts _ q1493⟩ (x_preS hG hR hW hS) rfl rfl hl.1 rfl (lv_room (Nat.le_of_ble_eq_true rfl)) dX13_both_29 ⟨c38.1, c38.2⟩) hS (fun H locs hR hS => ?_)
    refine lv_astore_n (lv' := [(2, .ref w8_n), (0, .ref o), (1, .int p1)]) hx hb dX13_both_32 rfl hl (by decide) (by first | rfl | simp [va_rf_c]) (fun ls hl => ?_)
    refine lv_goto (tgt := 6) hx hb dX13_both_33 (by decide) ?_
    obtain rfl := some_i hf
    exact hk8 _ _ _ hR hS (lv_sub hl [1, 2, 0] rfl)
set_option maxHeartbeats 4000000 in
theorem y13_single (l : Launch) (d : Nat) (q_X13_any : Nat → (Nat → Nat) → Nat → Nat → Nat → Int32 → gK → gI → gJ → gX → gI → gJ → gX → Nat → Option ((Nat ⊕ Nat) × gK × gI × gJ × gX × gI × gJ × gX × Nat)) (q_X13_both : Nat → (Nat → Nat) → Nat → Nat → Nat → Int32 → gK → gI → gJ → gX → gI → gJ → gX → Nat → Option ((Nat ⊕ Nat) × gK × gI × gJ × gX × gI × gJ × gX × Nat)) (q_X13_single : Nat → (Nat → Nat) → Nat → Nat → Nat → Int32 → gK → gI → gJ → gX → gI → gJ → gX → Nat → Option ((Nat ⊕ Nat) × gK × gI × gJ × gX × gI × gJ × gX × Nat)) (ih_X13_any : ∀ (G : gG) (K : gK) (I : gI) (J : gJ) (X : gX) (A : gI) (B : gJ) (Q : gX) (n : Nat) (kf kv : Nat) (o : Nat) (p1 : Int32) (out : (Nat ⊕ Nat) × gK × gI × gJ × gX × gI × gJ × gX × Nat) (hf : q_X13_any G.2.2 (aK G) kf kv o p1 K I J X A B Q n = some out) , GMetX l yX13_any cX13_any 3 (some (.object "PailRow$Cond")) (d + 6) (d * 25 + 129) G [.ref o, .int p1] K I J X A B Q (xsq "PailRow$Fault" out.1) out.2.1 out.2.2.1 out.2.2.2.1 out.2.2.2.2.1 out.2.2.2.2.2.1 out.2.2.2.2.2.2.1 out.2.2.2.2.2.2.2.1 kf kv) (ih_X13_both : ∀ (G : gG) (K : gK) (I : gI) (J : gJ) (X : gX) (A : gI) (B : gJ) (Q : gX) (n : Nat) (kf kv : Nat) (o : Nat) (p1 : Int32) (out : (Nat ⊕ Nat) × gK × gI × gJ × gX × gI × gJ × gX × Nat) (hf : q_X13_both G.2.2 (aK G) kf kv o p1 K I J X A B Q n = some out) , GMetX l yX13_both cX13_both 3 (some (.object "PailRow$Cond")) (d + 6) (d * 25 + 129) G [.ref o, .int p1] K I J X A B Q (xsq "PailRow$Fault" out.1) out.2.1 out.2.2.1 out.2.2.2.1 out.2.2.2.2.1 out.2.2.2.2.2.1 out.2.2.2.2.2.2.1 out.2.2.2.2.2.2.2.1 kf kv) (ih_X13_single : ∀ (G : gG) (K : gK) (I : gI) (J : gJ) (X : gX) (A : gI) (B : gJ) (Q : gX) (n : Nat) (kf kv : Nat) (o : Nat) (p1 : Int32) (out : (Nat ⊕ Nat) × gK × gI × gJ × gX × gI × gJ × gX × Nat) (hf : q_X13_single G.2.2 (aK G) kf kv o p1 K I J X A B Q n = some out) , GMetX l yX13_single cX13_single 6 (some (.object "PailRow$Cond")) (d + 6) (d * 25 + 129) G [.ref o, .int p1] K I J X A B Q (xsq "PailRow$Fault" out.1) out.2.1 out.2.2.1 out.2.2.2.1 out.2.2.2.2.1 out.2.2.2.2.2.1 out.2.2.2.2.2.2.1 out.2.2.2.2.2.2.2.1 kf kv) : ∀ (G : gG) (K : gK) (I : gI) (J : gJ) (X : gX) (A : gI) (B : gJ) (Q : gX) (n : Nat) (kf kv : Nat) (o : Nat) (p1 : Int32) (out : (Nat ⊕ Nat) × gK × gI × gJ × gX × gI × gJ × gX × Nat) (hf : wb13_single q_X13_any q_X13_both q_X13_single G.2.2 (aK G) kf kv o p1 K I J X A B Q n = some out), GMetX l yX13_single cX13_single 6 (some (.object "PailRow$Cond")) ((d + 1) + 6) ((d + 1) * 25 + 129) G [.ref o, .int p1] K I J X A B Q (xsq "PailRow$Fault" out.1) out.2.1 out.2.2.1 out.2.2.2.1 out.2.2.2.2.1 out.2.2.2.2.2.1 out.2.2.2.2.2.2.1 out.2.2.2.2.2.2.2.1 kf kv := by
  intro G K I J X A B Q n kf kv o p1 out hf
  refine GMetX.of (y := yX13_single) rfl (Nat.le_of_ble_eq_true rfl) (la := [(0, .ref o), (1, .int p1)]) rfl ?_
  intro p e s m below meth c ls hx hb hr hml hlocks hts hown hname ht hG hR hW hl
  have hown : s.vm.findClass RX13 = some m.cls := hown
  have hS : va_S (gA G) s.heap s.heap [] := va_S.rf
  have hz : (∃ a, K a ≠ none) → G.2.2 ≤ s.heap.size := fun ⟨a, h⟩ => Nat.le_of_lt (Nat.lt_of_le_of_lt (hR.ge h) (hR.lt h))
  have hend : ∀ (v : Nat), out.1 = .inr v → ∀ (pc : Nat) (H : Heap) (locs : List Loc) (ls : Array Slot), decode cX13_single pc = .ok (.areturn, 1) → RS G out.2.1 out.2.2.1 out.2.2.2.1 out.2.2.2.2.1 out.2.2.2.2.2.1 out.2.2.2.2.2.2.1 out.2.2.2.2.2.2.2.1 H → va_S (gA G) s.heap H locs → W p l e ({ frames := (d + 1) + 6, cells := kf, slots := kv, locals := (d + 1) * 25 + 129 } : Room) s m ([.ref o, .int p1] : List Value).toArray below meth c H locs kf kv (vx_MQ below (xQ G (xsq "PailRow$Fault" out.1) out.2.1 out.2.2.1 out.2.2.2.1 out.2.2.2.2.1 out.2.2.2.2.2.1 out.2.2.2.2.2.2.1 out.2.2.2.2.2.2.2.1) (xX G (xsq "PailRow$Fault" out.1) out.2.1 out.2.2.1 out.2.2.2.1 out.2.2.2.2.1 out.2.2.2.2.2.1 out.2.2.2.2.2.2.1 out.2.2.2.2.2.2.2.1) ([.ref o, .int p1] : List Value).toArray s kf kv (gA G)) (F0 m pc ls [.ref v]) := fun v hv pc H locs ls hd hR hS => x_aret (v := some v) hx hb hr (Or.inl ⟨_, rfl⟩) hlocks hG hR hS (by rw [hv]; rfl) hd
  have hthr : ∀ (b : Nat), out.1 = .inl b → ∀ (pc : Nat) (H : Heap) (locs : List Loc) (ls : Array Slot) (rest : List Value), out.2.1 b = some (.inl 1) → RS G out.2.1 out.2.2.1 out.2.2.2.1 out.2.2.2.2.1 out.2.2.2.2.2.1 out.2.2.2.2.2.2.1 out.2.2.2.2.2.2.2.1 H → va_S (gA G) s.heap H locs → vx_W p l e ({ frames := (d + 1) + 6, cells := kf, slots := kv, locals := (d + 1) * 25 + 129 } : Room) s m ([.ref o, .int p1] : List Value).toArray below meth c H locs kf kv (vx_MQ below (xQ G (xsq "PailRow$Fault" out.1) out.2.1 out.2.2.1 out.2.2.2.1 out.2.2.2.2.1 out.2.2.2.2.2.1 out.2.2.2.2.2.2.1 out.2.2.2.2.2.2.2.1) (xX G (xsq "PailRow$Fault" out.1) out.2.1 out.2.2.1 out.2.2.2.1 out.2.2.2.2.1 out.2.2.2.2.2.1 out.2.2.2.2.2.2.1 out.2.2.2.2.2.2.2.1) ([.ref o, .int p1] : List Value).toArray s kf kv (gA G)) (F0 m pc ls rest) b := fun b hn pc H locs ls rest hk hR hS => x_out (ci := 1) ht hlocks hG hR hS hk rfl (by rw [hn]; rfl)
  generalize vx_MQ below (xQ G (xsq "PailRow$Fault" out.1) out.2.1 out.2.2.1 out.2.2.2.1 out.2.2.2.2.1 out.2.2.2.2.2.1 out.2.2.2.2.2.2.1 out.2.2.2.2.2.2.2.1) (xX G (xsq "PailRow$Fault" out.1) out.2.1 out.2.2.1 out.2.2.2.1 out.2.2.2.2.1 out.2.2.2.2.2.1 out.2.2.2.2.2.2.1 out.2.2.2.2.2.2.2.1) ([.ref o, .int p1] : List Value).toArray s kf kv (gA G) = Z at hend hthr ⊢
  generalize ([.ref o, .int p1] : List Value).toArray = args at hts hend hthr ⊢
  unfold wb13_single at hf
  obtain ⟨k0, hf⟩ := gdp_some hf
  refine lv_aload_n hx hb dX13_single_0 rfl (lv_at hl 0 rfl) ?_
  refine b_ldcS (k := 22) (tx := "not") hx hb hown hW (by decide) dX13_single_1 ?_
  obtain ⟨a2, ha2, hf⟩ := bind_s hf
  obtain ⟨g3, hf⟩ := gdp_some hf
  obtain ⟨g4, hf⟩ := gdp_some hf
  obtain ⟨r1, hr1, hf⟩ := bind_s hf
  refine x0_gor (vx_runU (As := [.ref (aK G 22)]) (rest := []) (b := o) ⟨hx, hb, hml, hown, hts⟩ (m6_isS l G K I J X A B Q o a2 g3 g4 ha2 22 (by decide) (I 1002 o) (I 1003 o) (I 1005 o) (A (a2 + 1)) rfl rfl rfl rfl r1 hr1) (va_cwU (x := ⟨"PailRow$SentenceReader", "is", "(Ljava/lang/String;)Z"⟩) (owner := "PailRow$Reader") 1 hts gu_X13_55_10 rfl rfl rfl rfl ⟨by decide +kernel, by decide +kernel, by decide +kernel⟩ ⟨by dsimp only; omega, by dsimp only; omega⟩) (x_preV hG hR hW hS g3.1 rfl) rfl rfl hl.1 rfl (lv_room (Nat.le_of_ble_eq_true rfl)) dX13_single_3 ⟨Nat.zero_le _, Nat.zero_le _⟩) hS (fun H locs hR hS => ?_)
  refine lv_istore_n (lv' := [(2, .int r1), (0, .ref o), (1, .int p1)]) hx hb dX13_single_6 rfl hl (by decide) rfl (fun ls hl => ?_)
  refine lv_aload_n hx hb dX13_single_7 rfl (lv_at hl 1 rfl) ?_
  refine lv_bipush (v := 40) hx hb dX13_single_8 lb_40 ?_
  obtain ⟨a6, ha6, hf⟩ := bind_s hf
  obtain ⟨g7, hf⟩ := gdp_some hf
  obtain ⟨r5, hr5, hf⟩ := bind_s hf
  refine g0_cU (rm := (0, 0)) (As := [.int (40 : Int32)]) (rest := []) ⟨hx, hb, hml, hown, hts⟩ hG hR hS (m6_is_2S l G K I J X A B Q o a6 g3 g7 ha6 (40 : Int32) (I 1003 o) (I 1004 o) rfl rfl r5 hr5) (va_cwU (x := ⟨"PailRow$SentenceReader", "is", "(I)Z"⟩) (owner := "PailRow$Reader") 1 hts gu_X13_77_10 rfl rfl rfl rfl ⟨by decide +kernel, by decide +kernel, by decide +kernel⟩ ⟨by dsimp only; omega, by dsimp only; omega⟩) g3.1 rfl rfl hl.1 (Nat.le_of_ble_eq_true rfl) dX13_single_10 ⟨Nat.zero_le _, Nat.zero_le _⟩ rfl (fun H locs hR hS => ?_)
  refine lv_istore_n (lv' := [(3, .int r5), (2, .int r1), (0, .ref o), (1, .int p1)]) hx hb dX13_single_13 rfl hl (by decide) rfl (fun ls hl => ?_)
  refine lv_aload_n hx hb dX13_single_14 rfl (lv_at hl 2 rfl) ?_
  refine lv_aload_n hx hb dX13_single_15 rfl (lv_at hl 2 rfl) ?_
  obtain ⟨k8, hf⟩ := gdp_some hf
  obtain ⟨x9, ex9, hf⟩ := lt_some hf
  refine g_getx hx hb hts hown hG hR gFx_X13_27_10 k8 dX13_single_16 ?_
  rw [← ex9]
  obtain ⟨a10, ha10, hf⟩ := bind_s hf
  try rw [ha10]
  obtain ⟨a12, ha12, hf⟩ := bind_s hf
  obtain ⟨g13, hf⟩ := gdp_some hf
  obtain ⟨g14, hf⟩ := gdp_some hf
  obtain ⟨g15, hf⟩ := gdp_some hf
  obtain ⟨r11, hr11, hf⟩ := bind_s hf
  refine x0_gor (vx_runU (As := [.ref a10]) (rest := []) (b := o) ⟨hx, hb, hml, hown, hts⟩ (m6_findS l G K I J X A B Q o a12 g3 g13 ha12 a10 5 24 g14 (by decide) g15 (I 1002 o) (I 1003 o) (I 1005 o) (A (a12 + 1)) rfl rfl rfl rfl r11 hr11) (va_cwU (x := ⟨"PailRow$SentenceReader", "find", "([Ljava/lang/String;)I"⟩) (owner := "PailRow$Reader") 1 hts gu_X13_80_10 rfl rfl rfl rfl ⟨by decide +kernel, by decide +kernel, by decide +kernel⟩ ⟨by dsimp only; omega, by dsimp only; omega⟩) (x_preV hG hR hW hS g3.1 rfl) rfl rfl hl.1 rfl (lv_room (Nat.le_of_ble_eq_true rfl)) dX13_single_19 ⟨Nat.zero_le _, Nat.zero_le _⟩) hS (fun H locs hR hS => ?_)
  refine lv_istore (lv' := [(4, .int r11), (3, .int r5), (2, .int r1), (0, .ref o), (1, .int p1)]) hx hb dX13_single_22 hl (by decide) rfl (fun ls hl => ?_)
  refine lv_aload_n hx hb dX13_single_24 rfl (lv_at hl 3 rfl) ?_
  refine lv_iload_n hx hb dX13_single_25 rfl (lv_at hl 2 rfl) ?_
  have hj53 : ∀ (j53_s0 : Int32) (j53_I : gI) (j53_J : gJ) (j53_X : gX) (j53_A : gI) (j53_B : gJ) (j53_Q : gX), w13_single_j53 q_X13_any q_X13_single G.2.2 (aK G) kf kv o p1 K n r1 r5 r11 j53_s0 j53_I j53_J j53_X j53_A j53_B j53_Q = some out → ∀ (H : Heap) (locs : List Loc) (ls : Array Slot), RS G K j53_I j53_J j53_X j53_A j53_B j53_Q H → va_S (gA G) s.heap H locs → lv_has ls 6 [(0, .ref o), (1, .int p1), (2, .int r1), (3, .int r5), (4, .int r11)] → W p l e ({ frames := (d + 1) + 6, cells := kf, slots := kv, locals := (d + 1) * 25 + 129 } : Room) s m args below meth c H locs 0 0 Z (F0 m 53 ls [.int j53_s0, .ref o]) := by
    intro j53_s0 j53_I j53_J j53_X j53_A j53_B j53_Q hf H locs ls hR hS hl
    unfold w13_single_j53 at hf
    refine lv_iconst (v := 1) hx hb dX13_single_53 li_1 ?_
    obtain ⟨a17, ha17, hf⟩ := bind_s hf
    obtain ⟨g18, hf⟩ := gdp_some hf
    obtain ⟨g19, hf⟩ := gdp_some hf
    obtain ⟨g20, hf⟩ := gdp_some hf
    obtain ⟨g21, hf⟩ := gdp_some hf
    obtain ⟨r16, hr16, hf⟩ := bind_s hf
    refine x0_gou (vx_runU (As := [.int j53_s0, .int (1 : Int32)]) (rest := []) (b := o) ⟨hx, hb, hml, hown, hts⟩ (m6_mustS l G K j53_I j53_J j53_X j53_A j53_B j53_Q o a17 g18 g19 g20 ha17 g21 j53_s0 (1 : Int32) (j53_I 106 (a17 + 2)) (j53_I 107 (a17 + 2)) (j53_I 1002 o) rfl rfl rfl r16 hr16) (va_cwU (x := ⟨"PailRow$SentenceReader", "must", "(ZI)V"⟩) (owner := "PailRow$Reader") 2 hts gu_X13_46_10 rfl rfl rfl rfl ⟨by decide +kernel, by decide +kernel, by decide +kernel⟩ ⟨by dsimp only; omega, by dsimp only; omega⟩) (x_preV hG hR hW hS g18.1 rfl) rfl rfl hl.1 rfl (lv_room (Nat.le_of_ble_eq_true rfl)) dX13_single_54 ⟨Nat.zero_le _, Nat.zero_le _⟩) hS (fun H locs hnv23 hR hS => ?_) (fun v23 H locs hvv23 hR hS => ?_)
    · have hf := tr_n hnv23 hf
      obtain ⟨Im22, eIm22, hf⟩ := lt_some hf
      rw [← eIm22] at hR
      obtain ⟨k25, hf⟩ := gdp_some hf
      obtain ⟨c26, hf⟩ := gdp_some hf
      refine vx_widen (Nat.le_of_eq c26.1) (Nat.le_of_eq c26.2) ?_
      obtain rfl := some_i hf
      exact hthr _ rfl _ _ _ _ _ k25 hR hS
    have hf := tr_s hvv23 hf
    obtain ⟨Im22, eIm22, hf⟩ := lt_some hf
    rw [← eIm22] at hR
    refine lv_aload_n hx hb dX13_single_57 rfl (lv_at hl 0 rfl) ?_
    refine lv_aload_n hx hb dX13_single_58 rfl (lv_at hl 0 rfl) ?_
    obtain ⟨v27, ev27, hf⟩ := lt_some hf
    refine n_geti (v := v27) hx hb hts hown hG hR gFi_X13_31_10 k8 ev27.symm dX13_single_59 ?_
    refine lv_bipush (v := 20) hx hb dX13_single_62 lb_20 ?_
    have hj78 : ∀ (j78_s0 : Int32), w13_single_j78 q_X13_any q_X13_single G.2.2 (aK G) kf kv o p1 K n r1 r5 r11 j53_J j53_X j53_A j53_B j53_Q Im22 j78_s0 = some out → ∀ (H : Heap) (locs : List Loc) (ls : Array Slot), RS G K Im22 j53_J j53_X j53_A j53_B j53_Q H → va_S (gA G) s.heap H locs → lv_has ls 6 [(0, .ref o), (1, .int p1), (2, .int r1), (3, .int r5), (4, .int r11)] → W p l e ({ frames := (d + 1) + 6, cells := kf, slots := kv, locals := (d + 1) * 25 + 129 } : Room) s m args below meth c H locs 0 0 Z (F0 m 78 ls [.int j78_s0, .ref o]) := by
      intro j78_s0 hf H locs ls hR hS hl
      unfold w13_single_j78 at hf
      refine lv_iconst (v := 4) hx hb dX13_single_78 li_4 ?_
      obtain ⟨a29, ha29, hf⟩ := bind_s hf
      obtain ⟨g30, hf⟩ := gdp_some hf
      obtain ⟨g31, hf⟩ := gdp_some hf
      obtain ⟨g32, hf⟩ := gdp_some hf
      obtain ⟨r28, hr28, hf⟩ := bind_s hf
      refine x0_gou (vx_runU (As := [.int j78_s0, .int (4 : Int32)]) (rest := []) (b := o) ⟨hx, hb, hml, hown, hts⟩ (m6_mustS l G K Im22 j53_J j53_X j53_A j53_B j53_Q o a29 g18 g30 g31 ha29 g32 j78_s0 (4 : Int32) (Im22 106 (a29 + 2)) (Im22 107 (a29 + 2)) (Im22 1002 o) rfl rfl rfl r28 hr28) (va_cwU (x := ⟨"PailRow$SentenceReader", "must", "(ZI)V"⟩) (owner := "PailRow$Reader") 2 hts gu_X13_46_10 rfl rfl rfl rfl ⟨by decide +kernel, by decide +kernel, by decide +kernel⟩ ⟨by dsimp only; omega, by dsimp only; omega⟩) (x_preV hG hR hW hS g18.1 rfl) rfl rfl hl.1 rfl (lv_room (Nat.le_of_ble_eq_true rfl)) dX13_single_79 ⟨Nat.zero_le _, Nat.zero_le _⟩) hS (fun H locs hnv34 hR hS => ?_) (fun v34 H locs hvv34 hR hS => ?_)
      · have hf := tr_n hnv34 hf
        obtain ⟨Im33, eIm33, hf⟩ := lt_some hf
        rw [← eIm33] at hR
        obtain ⟨k36, hf⟩ := gdp_some hf
        obtain ⟨c37, hf⟩ := gdp_some hf
        refine vx_widen (Nat.le_of_eq c37.1) (Nat.le_of_eq c37.2) ?_
        obtain rfl := some_i hf
        exact hthr _ rfl _ _ _ _ _ k36 hR hS
      have hf := tr_s hvv34 hf
      obtain ⟨Im33, eIm33, hf⟩ := lt_some hf
      rw [← eIm33] at hR
      refine lv_aload_n hx hb dX13_single_82 rfl (lv_at hl 0 rfl) ?_
      refine lv_dup hx hb dX13_single_83 rfl ?_
      obtain ⟨v38, ev38, hf⟩ := lt_some hf
      refine n_geti (v := v38) hx hb hts hown hG hR gFi_X13_31_10 k8 ev38.symm dX13_single_84 ?_
      refine lv_iconst (v := 1) hx hb dX13_single_87 li_1 ?_
      obtain ⟨v39, ev39, hf⟩ := lt_some hf
      refine n_iadd hx hb ev39 dX13_single_88 ?_
      refine g_puti (v := v39) hx hb hts hown hG hR hS gPi_X13_31_10 k8 dX13_single_89 (fun H locs hR hS => ?_)
      obtain ⟨Im40, eIm40, hf⟩ := lt_some hf
      rw [← eIm40] at hR
      refine lv_aload_n hx hb dX13_single_92 rfl (lv_at hl 0 rfl) ?_
      obtain ⟨a42, ha42, hf⟩ := bind_s hf
      obtain ⟨g43, hf⟩ := gdp_some hf
      obtain ⟨r41, hr41, hf⟩ := bind_s hf
      refine g0_cUv (rm := (3, 65)) (As := []) (rest := []) ⟨hx, hb, hml, hown, hts⟩ hG hR hS (m6_nextS l G K Im40 j53_J j53_X j53_A j53_B j53_Q o a42 g18 g43 ha42 (Im40 2 a42) (Im40 1000 o) (Im40 1001 o) (Im40 1002 o) (Im40 1003 o) (Im40 1004 o) (Im40 1005 o) (j53_J 1006 o) (j53_A (a42 + 1)) rfl rfl rfl rfl rfl rfl rfl rfl rfl r41 hr41) (va_cwU (x := ⟨"PailRow$SentenceReader", "next", "()V"⟩) (owner := "PailRow$Reader") 0 hts gu_X13_59_10 rfl rfl rfl rfl ⟨by decide +kernel, by decide +kernel, by decide +kernel⟩ ⟨by dsimp only; omega, by dsimp only; omega⟩) g18.1 rfl rfl hl.1 (Nat.le_of_ble_eq_true rfl) dX13_single_93 ⟨Nat.zero_le _, Nat.zero_le _⟩ rfl (fun H locs hR hS => ?_)
      obtain ⟨Im44, eIm44, hf⟩ := lt_some hf
      obtain ⟨Jm45, eJm45, hf⟩ := lt_some hf
      rw [← eIm44, ← eJm45] at hR
      refine lv_iload_n hx hb dX13_single_96 rfl (lv_at hl 2 rfl) ?_
      refine lv_if_eq (tgt := 115) hx hb dX13_single_97 (by decide) (fun c46 => ?_) (fun c46 => ?_)
      · have hf := ite_t c46 hf
        refine lv_iload_n hx hb dX13_single_115 rfl (lv_at hl 3 rfl) ?_
        refine lv_if_eq (tgt := 137) hx hb dX13_single_116 (by decide) (fun c47 => ?_) (fun c47 => ?_)
        · have hf := ite_t c47 hf
          refine lv_iload hx hb dX13_single_137 (lv_at hl 4 rfl) ?_
          refine lv_iconst (v := -1) hx hb dX13_single_139 li_m1 ?_
          refine lv_icmp_eq (tgt := 152) hx hb dX13_single_140 (by decide) (fun c48 => ?_) (fun c48 => ?_)
          · have hf := ite_t c48 hf
            obtain ⟨c49, hf⟩ := gdp_some hf
            obtain ⟨c50, hf⟩ := gdp_some hf
            refine s_new (n := n) (ci := 16) (T := TX20) (N := 0) hx hb hts (fun w h => absurd h List.not_mem_nil) tyX0z (fun k h => absurd h (Nat.not_lt_zero k)) hown (hts _ q1482) (hts _ q1483) (hts _ q132) hG hR c49 hS (hz k0) rfl (by decide) hdv_16 c50.1 c50.2 dX13_single_152 (fun H hR hS => ?_)
            obtain ⟨Km51, eKm51, hf⟩ := lt_some hf
            obtain ⟨Im52, eIm52, hf⟩ := lt_some hf
            obtain ⟨Jm53, eJm53, hf⟩ := lt_some hf
            obtain ⟨Xm54, eXm54, hf⟩ := lt_some hf
            rw [← eKm51, ← eIm52, ← eJm53, ← eXm54] at hR
            obtain ⟨n55, en55, hf⟩ := lt_some hf
            obtain ⟨u56, eu56, hf⟩ := lt_some hf
            obtain ⟨v57, ev57, hf⟩ := lt_some hf
            refine W.widen (k := u56) (n := v57) (Nat.le_of_eq eu56.symm) (Nat.le_of_eq ev57.symm) ?_
            refine lv_dup hx hb dX13_single_155 rfl ?_
            obtain ⟨c59, hf⟩ := gdp_some hf
            obtain ⟨r58, hr58, hf⟩ := bind_s hf
            refine x0_gor (vx_runIN (As := []) (rest := [.ref n]) (b := n) ⟨hx, hb, hml, hown, hts⟩ (m20_init_w l G Km51 Im52 Jm53 Xm54 j53_A j53_B j53_Q n55 n r58 hr58) ⟨va_cnB 0 hts (lw_meth q1486) rfl rfl rfl (hG.2 _ q1484 rfl) (hts _ q132) (by decide +kernel) ⟨by dsimp only; omega, by dsimp only; omega⟩, rfl, hts _ q1485⟩ (x_preS hG hR hW hS) rfl rfl hl.1 rfl (lv_room (Nat.le_of_ble_eq_true rfl)) dX13_single_156 ⟨c59.1, c59.2⟩) hS (fun H locs hR hS => ?_)
            obtain ⟨c60, hf⟩ := gdp_some hf
            refine W.widen (Nat.le_of_eq c60.1) (Nat.le_of_eq c60.2) ?_
            obtain rfl := some_i hf
            exact hend _ rfl _ _ _ _ dX13_single_159 hR hS
          · have hf := ite_f c48 hf
            refine lv_aload_n hx hb dX13_single_143 rfl (lv_at hl 0 rfl) ?_
            refine lv_iload hx hb dX13_single_144 (lv_at hl 4 rfl) ?_
            obtain ⟨c62, hf⟩ := gdp_some hf
            obtain ⟨r61, hr61, hf⟩ := bind_s hf
            refine x_gosq (vx_runV (As := [.int r11]) (rest := []) (b := o) ⟨hx, hb, hml, hown, hts⟩ (m13_counts_w l G K Im44 Jm45 j53_X j53_A j53_B j53_Q n o r11 r61 hr61) ⟨callB_of 1 hts (lw_meth q1465) rfl rfl rfl (hts _ q117) (hts _ q1462) (by decide +kernel) ⟨by dsimp only; omega, by dsimp only; omega⟩, hts _ q1464, hts _ qs33⟩ (x_preV hG hR hW hS k8 rfl) rfl rfl hl.1 rfl (lv_room (Nat.le_of_ble_eq_true rfl)) dX13_single_146 ⟨c62.1, c62.2⟩) hS (fun b64 H locs hnv63 hR hS => ?_) (fun v63 H locs hvv63 hR hS => ?_)
            · have hf := trs_l hnv63 hf
              obtain ⟨k65, hf⟩ := gdp_some hf
              obtain ⟨c66, hf⟩ := gdp_some hf
              refine vx_widen (Nat.le_of_eq c66.1) (Nat.le_of_eq c66.2) ?_
              obtain rfl := some_i hf
              exact hthr _ rfl _ _ _ _ _ k65 hR hS
            have hf := trs_r hvv63 hf
            refine lv_goto (tgt := 159) hx hb dX13_single_149 (by decide) ?_
            obtain ⟨c67, hf⟩ := gdp_some hf
            refine W.widen (Nat.le_of_eq c67.1) (Nat.le_of_eq c67.2) ?_
            obtain rfl := some_i hf
            exact hend _ rfl _ _ _ _ dX13_single_159 hR hS
        · have hf := ite_f c47 hf
          refine lv_aload_n hx hb dX13_single_119 rfl (lv_at hl 0 rfl) ?_
          refine lv_iload_n hx hb dX13_single_120 rfl (lv_at hl 1 rfl) ?_
          refine lv_iconst (v := 1) hx hb dX13_single_121 li_1 ?_
          obtain ⟨v68, ev68, hf⟩ := lt_some hf
          refine n_iadd hx hb ev68 dX13_single_122 ?_
          obtain ⟨r69, hr69, hf⟩ := bind_s hf
          replace hr69 := anyk_some hr69
          obtain ⟨c70, hf⟩ := gdp_some hf
          refine x_gosq (vx_runV (As := [.int v68]) (rest := []) (b := o) ⟨hx, hb, hml, hown, hts⟩ (ih_X13_any G K Im44 Jm45 j53_X j53_A j53_B j53_Q n r69.1 r69.2.1 o v68 (r69.2.2) hr69) ⟨callB_of 1 hts (lw_meth q1419) rfl rfl rfl (hts _ q117) (hts _ q1416) (by decide +kernel) ⟨by dsimp only; omega, by dsimp only; omega⟩, hts _ q1418, hts _ qs30⟩ (x_preV hG hR hW hS k8 rfl) rfl rfl hl.1 rfl (lv_room (Nat.le_of_ble_eq_true rfl)) dX13_single_123 ⟨c70.1, c70.2⟩) hS (fun b72 H locs hnv71 hR hS => ?_) (fun v71 H locs hvv71 hR hS => ?_)
          · have hf := trs_l hnv71 hf
            obtain ⟨k73, hf⟩ := gdp_some hf
            obtain ⟨c74, hf⟩ := gdp_some hf
            refine vx_widen (Nat.le_of_eq c74.1) (Nat.le_of_eq c74.2) ?_
            obtain rfl := some_i hf
            exact hthr _ rfl _ _ _ _ _ k73 hR hS
          have hf := trs_r hvv71 hf
          refine lv_astore (lv' := [(5, .ref v71), (0, .ref o), (1, .int p1), (2, .int r1), (3, .int r5), (4, .int r11)]) hx hb dX13_single_126 hl (by decide) (by first | rfl | simp [va_rf_c]) (fun ls hl => ?_)
          refine lv_aload_n hx hb dX13_single_128 rfl (lv_at hl 1 rfl) ?_
          refine lv_bipush (v := 41) hx hb dX13_single_129 lb_41 ?_
          obtain ⟨c76, hf⟩ := gdp_some hf
          obtain ⟨a77, ha77, hf⟩ := bind_s hf
          obtain ⟨g78, hf⟩ := gdp_some hf
          obtain ⟨g79, hf⟩ := gdp_some hf
          obtain ⟨g80, hf⟩ := gdp_some hf
          obtain ⟨g81, hf⟩ := gdp_some hf
          obtain ⟨r75, hr75, hf⟩ := bind_s hf
          refine x0_gou (vx_runU (As := [.int (41 : Int32)]) (rest := []) (b := o) ⟨hx, hb, hml, hown, hts⟩ (m6_signS l G r69.2.2.2.1 r69.2.2.2.2.1 r69.2.2.2.2.2.1 r69.2.2.2.2.2.2.1 r69.2.2.2.2.2.2.2.1 r69.2.2.2.2.2.2.2.2.1 r69.2.2.2.2.2.2.2.2.2.1 o a77 g78 g79 g80 ha77 g81 (41 : Int32) (r69.2.2.2.2.1 2 a77) (r69.2.2.2.2.1 106 (a77 + 2)) (r69.2.2.2.2.1 107 (a77 + 2)) (r69.2.2.2.2.1 1000 o) (r69.2.2.2.2.1 1001 o) (r69.2.2.2.2.1 1002 o) (r69.2.2.2.2.1 1003 o) (r69.2.2.2.2.1 1004 o) (r69.2.2.2.2.1 1005 o) (r69.2.2.2.2.2.1 1006 o) (r69.2.2.2.2.2.2.2.1 (a77 + 1)) rfl rfl rfl rfl rfl rfl rfl rfl rfl rfl rfl r75 hr75) (va_cwU (x := ⟨"PailRow$SentenceReader", "sign", "(I)V"⟩) (owner := "PailRow$Reader") 1 hts gu_X13_91_10 rfl rfl rfl rfl ⟨by decide +kernel, by decide +kernel, by decide +kernel⟩ ⟨by dsimp only; omega, by dsimp only; omega⟩) (x_preV hG hR hW hS g78.1 rfl) rfl rfl hl.1 rfl (lv_room (Nat.le_of_ble_eq_true rfl)) dX13_single_131 ⟨c76.1, c76.2⟩) hS (fun H locs hnv84 hR hS => ?_) (fun v84 H locs hvv84 hR hS => ?_)
          · have hf := tr_n hnv84 hf
            obtain ⟨Im82, eIm82, hf⟩ := lt_some hf
            obtain ⟨Jm83, eJm83, hf⟩ := lt_some hf
            rw [← eIm82, ← eJm83] at hR
            obtain ⟨k86, hf⟩ := gdp_some hf
            obtain ⟨c87, hf⟩ := gdp_some hf
            refine vx_widen (Nat.le_of_eq c87.1) (Nat.le_of_eq c87.2) ?_
            obtain rfl := some_i hf
            exact hthr _ rfl _ _ _ _ _ k86 hR hS
          have hf := tr_s hvv84 hf
          obtain ⟨Im82, eIm82, hf⟩ := lt_some hf
          obtain ⟨Jm83, eJm83, hf⟩ := lt_some hf
          rw [← eIm82, ← eJm83] at hR
          refine lv_aload hx hb dX13_single_134 (lv_at hl 0 rfl) ?_
          obtain ⟨c88, hf⟩ := gdp_some hf
          refine W.widen (Nat.le_of_eq c88.1) (Nat.le_of_eq c88.2) ?_
          obtain rfl := some_i hf
          exact hend _ rfl _ _ _ _ dX13_single_136 hR hS
      · have hf := ite_f c46 hf
        obtain ⟨c89, hf⟩ := gdp_some hf
        obtain ⟨c90, hf⟩ := gdp_some hf
        refine s_new (n := n) (ci := 14) (T := TX18) (N := 1) hx hb hts in_X18 tyX18 tyX18_ok hown (hts _ q1446) (hts _ q1447) (hts _ q130) hG hR c89 hS (hz k0) rfl (by decide) hdv_14 c90.1 c90.2 dX13_single_100 (fun H hR hS => ?_)
        obtain ⟨Km91, eKm91, hf⟩ := lt_some hf
        obtain ⟨Im92, eIm92, hf⟩ := lt_some hf
        obtain ⟨Jm93, eJm93, hf⟩ := lt_some hf
        obtain ⟨Xm94, eXm94, hf⟩ := lt_some hf
        rw [← eKm91, ← eIm92, ← eJm93, ← eXm94] at hR
        obtain ⟨n95, en95, hf⟩ := lt_some hf
        obtain ⟨u96, eu96, hf⟩ := lt_some hf
        obtain ⟨v97, ev97, hf⟩ := lt_some hf
        refine W.widen (k := u96) (n := v97) (Nat.le_of_eq eu96.symm) (Nat.le_of_eq ev97.symm) ?_
        refine lv_dup hx hb dX13_single_103 rfl ?_
        refine lv_aload_n hx hb dX13_single_104 rfl (lv_at hl 0 rfl) ?_
        refine lv_iload_n hx hb dX13_single_105 rfl (lv_at hl 1 rfl) ?_
        refine lv_iconst (v := 1) hx hb dX13_single_106 li_1 ?_
        obtain ⟨v98, ev98, hf⟩ := lt_some hf
        refine n_iadd hx hb ev98 dX13_single_107 ?_
        obtain ⟨k99, hf⟩ := gdp_some hf
        obtain ⟨r100, hr100, hf⟩ := bind_s hf
        replace hr100 := anyk_some hr100
        obtain ⟨c101, hf⟩ := gdp_some hf
        refine x_gosq (vx_runV (As := [.int v98]) (rest := [.ref n, .ref n]) (b := o) ⟨hx, hb, hml, hown, hts⟩ (ih_X13_single G Km91 Im92 Jm93 Xm94 j53_A j53_B j53_Q n95 r100.1 r100.2.1 o v98 (r100.2.2) hr100) ⟨callB_of 1 hts (lw_meth q1427) rfl rfl rfl (hts _ q117) (hts _ q1424) (by decide +kernel) ⟨by dsimp only; omega, by dsimp only; omega⟩, hts _ q1426, hts _ qs32⟩ (x_preV hG hR hW hS k99 rfl) rfl rfl hl.1 rfl (lv_room (Nat.le_of_ble_eq_true rfl)) dX13_single_108 ⟨c101.1, c101.2⟩) hS (fun b103 H locs hnv102 hR hS => ?_) (fun v102 H locs hvv102 hR hS => ?_)
        · have hf := trs_l hnv102 hf
          obtain ⟨k104, hf⟩ := gdp_some hf
          obtain ⟨c105, hf⟩ := gdp_some hf
          refine vx_widen (Nat.le_of_eq c105.1) (Nat.le_of_eq c105.2) ?_
          obtain rfl := some_i hf
          exact hthr _ rfl _ _ _ _ _ k104 hR hS
        have hf := trs_r hvv102 hf
        obtain ⟨c107, hf⟩ := gdp_some hf
        obtain ⟨r106, hr106, hf⟩ := bind_s hf
        refine x0_gor (vx_runI (As := [.ref v102]) (rest := [.ref n]) (b := n) ⟨hx, hb, hml, hown, hts⟩ (m18_init_w l G r100.2.2.2.1 r100.2.2.2.2.1 r100.2.2.2.2.2.1 r100.2.2.2.2.2.2.1 r100.2.2.2.2.2.2.2.1 r100.2.2.2.2.2.2.2.2.1 r100.2.2.2.2.2.2.2.2.2.1 r100.2.2.2.2.2.2.2.2.2.2 n v102 r106 hr106) ⟨callB_of 1 hts (lw_meth q1450) rfl rfl rfl (hts _ q130) (hts _ q1448) (by decide +kernel) ⟨by dsimp only; omega, by dsimp only; omega⟩, rfl, hts _ q1449⟩ (x_preS hG hR hW hS) rfl rfl hl.1 rfl (lv_room (Nat.le_of_ble_eq_true rfl)) dX13_single_111 ⟨c107.1, c107.2⟩) hS (fun H locs hR hS => ?_)
        obtain ⟨c108, hf⟩ := gdp_some hf
        refine W.widen (Nat.le_of_eq c108.1) (Nat.le_of_eq c108.2) ?_
        obtain rfl := some_i hf
        exact hend _ rfl _ _ _ _ dX13_single_114 hR hS
    have hj77 : ∀ (_ : Unit), w13_single_j77 q_X13_any q_X13_single G.2.2 (aK G) kf kv o p1 K n r1 r5 r11 j53_J j53_X j53_A j53_B j53_Q Im22 = some out → ∀ (H : Heap) (locs : List Loc) (ls : Array Slot), RS G K Im22 j53_J j53_X j53_A j53_B j53_Q H → va_S (gA G) s.heap H locs → lv_has ls 6 [(0, .ref o), (1, .int p1), (2, .int r1), (3, .int r5), (4, .int r11)] → W p l e ({ frames := (d + 1) + 6, cells := kf, slots := kv, locals := (d + 1) * 25 + 129 } : Room) s m args below meth c H locs 0 0 Z (F0 m 77 ls [.ref o]) := by
      intro _ hf H locs ls hR hS hl
      unfold w13_single_j77 at hf
      refine lv_iconst (v := 0) hx hb dX13_single_77 li_0 ?_
      exact hj78 (0 : Int32) hf _ _ _ hR hS (lv_sub hl [0, 1, 2, 3, 4] rfl)
    refine lv_icmp_ge (tgt := 77) hx hb dX13_single_64 (by decide) (fun c109 => ?_) (fun c109 => ?_)
    · have hf := ite_t c109 hf
      exact hj77 () hf _ _ _ hR hS (lv_sub hl [0, 1, 2, 3, 4] rfl)
    · have hf := ite_f c109 hf
      refine lv_iload_n hx hb dX13_single_67 rfl (lv_at hl 1 rfl) ?_
      refine lv_bipush (v := 8) hx hb dX13_single_68 lb_8 ?_
      refine lv_icmp_gt (tgt := 77) hx hb dX13_single_70 (by decide) (fun c110 => ?_) (fun c110 => ?_)
      · have hf := ite_t c110 hf
        exact hj77 () hf _ _ _ hR hS (lv_sub hl [0, 1, 2, 3, 4] rfl)
      · have hf := ite_f c110 hf
        refine lv_iconst (v := 1) hx hb dX13_single_73 li_1 ?_
        refine lv_goto (tgt := 78) hx hb dX13_single_74 (by decide) ?_
        exact hj78 (1 : Int32) hf _ _ _ hR hS (lv_sub hl [0, 1, 2, 3, 4] rfl)
  have hj48 : ∀ (j48_I : gI) (j48_J : gJ) (j48_X : gX) (j48_A : gI) (j48_B : gJ) (j48_Q : gX), w13_single_j48 q_X13_any q_X13_single G.2.2 (aK G) kf kv o p1 K n r1 r5 r11 j48_I j48_J j48_X j48_A j48_B j48_Q = some out → ∀ (H : Heap) (locs : List Loc) (ls : Array Slot), RS G K j48_I j48_J j48_X j48_A j48_B j48_Q H → va_S (gA G) s.heap H locs → lv_has ls 6 [(0, .ref o), (1, .int p1), (2, .int r1), (3, .int r5), (4, .int r11)] → W p l e ({ frames := (d + 1) + 6, cells := kf, slots := kv, locals := (d + 1) * 25 + 129 } : Room) s m args below meth c H locs 0 0 Z (F0 m 48 ls [.ref o]) := by
    intro j48_I j48_J j48_X j48_A j48_B j48_Q hf H locs ls hR hS hl
    unfold w13_single_j48 at hf
    refine lv_iconst (v := 1) hx hb dX13_single_48 li_1 ?_
    refine lv_goto (tgt := 53) hx hb dX13_single_49 (by decide) ?_
    exact hj53 (1 : Int32) j48_I j48_J j48_X j48_A j48_B j48_Q hf _ _ _ hR hS (lv_sub hl [0, 1, 2, 3, 4] rfl)
  refine lv_if_ne (tgt := 48) hx hb dX13_single_26 (by decide) (fun c111 => ?_) (fun c111 => ?_)
  · have hf := ite_f c111 hf
    exact hj48 I J X A B Q hf _ _ _ hR hS (lv_sub hl [3, 4, 2, 1, 0] rfl)
  · have hf := ite_t c111 hf
    refine lv_iload_n hx hb dX13_single_29 rfl (lv_at hl 1 rfl) ?_
    refine lv_if_ne (tgt := 48) hx hb dX13_single_30 (by decide) (fun c112 => ?_) (fun c112 => ?_)
    · have hf := ite_f c112 hf
      exact hj48 I J X A B Q hf _ _ _ hR hS (lv_sub hl [3, 4, 2, 1, 0] rfl)
    · have hf := ite_t c112 hf
      refine lv_aload_n hx hb dX13_single_33 rfl (lv_at hl 3 rfl) ?_
      refine b_ldcS (k := 23) (tx := "out") hx hb hown hW (by decide) dX13_single_34 ?_
      obtain ⟨a114, ha114, hf⟩ := bind_s hf
      obtain ⟨g115, hf⟩ := gdp_some hf
      obtain ⟨r113, hr113, hf⟩ := bind_s hf
      refine x0_gor (vx_runU (As := [.ref (aK G 23)]) (rest := [.ref o]) (b := o) ⟨hx, hb, hml, hown, hts⟩ (m6_isS l G K I J X A B Q o a114 g3 g115 ha114 23 (by decide) (I 1002 o) (I 1003 o) (I 1005 o) (A (a114 + 1)) rfl rfl rfl rfl r113 hr113) (va_cwU (x := ⟨"PailRow$SentenceReader", "is", "(Ljava/lang/String;)Z"⟩) (owner := "PailRow$Reader") 1 hts gu_X13_55_10 rfl rfl rfl rfl ⟨by decide +kernel, by decide +kernel, by decide +kernel⟩ ⟨by dsimp only; omega, by dsimp only; omega⟩) (x_preV hG hR hW hS g3.1 rfl) rfl rfl hl.1 rfl (lv_room (Nat.le_of_ble_eq_true rfl)) dX13_single_36 ⟨Nat.zero_le _, Nat.zero_le _⟩) hS (fun H locs hR hS => ?_)
      refine lv_if_ne (tgt := 48) hx hb dX13_single_39 (by decide) (fun c116 => ?_) (fun c116 => ?_)
      · have hf := ite_f c116 hf
        exact hj48 I J X A B Q hf _ _ _ hR hS (lv_sub hl [3, 4, 2, 1, 0] rfl)
      · have hf := ite_t c116 hf
        refine lv_iload hx hb dX13_single_42 (lv_at hl 0 rfl) ?_
        refine lv_iconst (v := -1) hx hb dX13_single_44 li_m1 ?_
        refine lv_icmp_eq (tgt := 52) hx hb dX13_single_45 (by decide) (fun c117 => ?_) (fun c117 => ?_)
        · have hf := ite_t c117 hf
          refine lv_iconst (v := 0) hx hb dX13_single_52 li_0 ?_
          exact hj53 (0 : Int32) I J X A B Q hf _ _ _ hR hS (lv_sub hl [3, 4, 2, 1, 0] rfl)
        · have hf := ite_f c117 hf
          exact hj48 I J X A B Q hf _ _ _ hR hS (lv_sub hl [3, 4, 2, 1, 0] rfl)
theorem w13_any_z : w13_any 0 = fun _ _ _ _ _ _ _ _ _ _ _ _ _ _ => none := rfl
theorem w13_any_s (d : Nat) : w13_any (d + 1) = wb13_any (w13_any d) (w13_both d) (w13_single d) := rfl
theorem w13_both_z : w13_both 0 = fun _ _ _ _ _ _ _ _ _ _ _ _ _ _ => none := rfl
theorem w13_both_s (d : Nat) : w13_both (d + 1) = wb13_both (w13_any d) (w13_both d) (w13_single d) := rfl
theorem w13_single_z : w13_single 0 = fun _ _ _ _ _ _ _ _ _ _ _ _ _ _ => none := rfl
theorem w13_single_s (d : Nat) : w13_single (d + 1) = wb13_single (w13_any d) (w13_both d) (w13_single d) := rfl
theorem wH_X13_any (l : Launch) : ∀ d : Nat, (∀ (G : gG) (K : gK) (I : gI) (J : gJ) (X : gX) (A : gI) (B : gJ) (Q : gX) (n : Nat) (kf kv : Nat) (o : Nat) (p1 : Int32) (out : (Nat ⊕ Nat) × gK × gI × gJ × gX × gI × gJ × gX × Nat) (hf : w13_any d G.2.2 (aK G) kf kv o p1 K I J X A B Q n = some out), GMetX l yX13_any cX13_any 3 (some (.object "PailRow$Cond")) (d + 6) (d * 25 + 129) G [.ref o, .int p1] K I J X A B Q (xsq "PailRow$Fault" out.1) out.2.1 out.2.2.1 out.2.2.2.1 out.2.2.2.2.1 out.2.2.2.2.2.1 out.2.2.2.2.2.2.1 out.2.2.2.2.2.2.2.1 kf kv) ∧ (∀ (G : gG) (K : gK) (I : gI) (J : gJ) (X : gX) (A : gI) (B : gJ) (Q : gX) (n : Nat) (kf kv : Nat) (o : Nat) (p1 : Int32) (out : (Nat ⊕ Nat) × gK × gI × gJ × gX × gI × gJ × gX × Nat) (hf : w13_both d G.2.2 (aK G) kf kv o p1 K I J X A B Q n = some out), GMetX l yX13_both cX13_both 3 (some (.object "PailRow$Cond")) (d + 6) (d * 25 + 129) G [.ref o, .int p1] K I J X A B Q (xsq "PailRow$Fault" out.1) out.2.1 out.2.2.1 out.2.2.2.1 out.2.2.2.2.1 out.2.2.2.2.2.1 out.2.2.2.2.2.2.1 out.2.2.2.2.2.2.2.1 kf kv) ∧ (∀ (G : gG) (K : gK) (I : gI) (J : gJ) (X : gX) (A : gI) (B : gJ) (Q : gX) (n : Nat) (kf kv : Nat) (o : Nat) (p1 : Int32) (out : (Nat ⊕ Nat) × gK × gI × gJ × gX × gI × gJ × gX × Nat) (hf : w13_single d G.2.2 (aK G) kf kv o p1 K I J X A B Q n = some out), GMetX l yX13_single cX13_single 6 (some (.object "PailRow$Cond")) (d + 6) (d * 25 + 129) G [.ref o, .int p1] K I J X A B Q (xsq "PailRow$Fault" out.1) out.2.1 out.2.2.1 out.2.2.2.1 out.2.2.2.2.1 out.2.2.2.2.2.1 out.2.2.2.2.2.2.1 out.2.2.2.2.2.2.2.1 kf kv) := by
  intro d
  induction d with
  | zero =>
    exact ⟨(by intro G K I J X A B Q n kf kv o p1 out hf; rw [w13_any_z] at hf; cases hf), (by intro G K I J X A B Q n kf kv o p1 out hf; rw [w13_both_z] at hf; cases hf), (by intro G K I J X A B Q n kf kv o p1 out hf; rw [w13_single_z] at hf; cases hf)⟩
  | succ d ih =>
    exact ⟨(by intro G K I J X A B Q n kf kv o p1 out hf; rw [w13_any_s] at hf; exact y13_any l d (w13_any d) (w13_both d) (w13_single d) ih.1 ih.2.1 ih.2.2 G K I J X A B Q n kf kv o p1 out hf), (by intro G K I J X A B Q n kf kv o p1 out hf; rw [w13_both_s] at hf; exact y13_both l d (w13_any d) (w13_both d) (w13_single d) ih.1 ih.2.1 ih.2.2 G K I J X A B Q n kf kv o p1 out hf), (by intro G K I J X A B Q n kf kv o p1 out hf; rw [w13_single_s] at hf; exact y13_single l d (w13_any d) (w13_both d) (w13_single d) ih.1 ih.2.1 ih.2.2 G K I J X A B Q n kf kv o p1 out hf)⟩
theorem m13_any_w (l : Launch) (d : Nat) : ∀ (G : gG) (K : gK) (I : gI) (J : gJ) (X : gX) (A : gI) (B : gJ) (Q : gX) (n : Nat) (kf kv : Nat) (o : Nat) (p1 : Int32) (out : (Nat ⊕ Nat) × gK × gI × gJ × gX × gI × gJ × gX × Nat) (hf : w13_any d G.2.2 (aK G) kf kv o p1 K I J X A B Q n = some out), GMetX l yX13_any cX13_any 3 (some (.object "PailRow$Cond")) (d + 6) (d * 25 + 129) G [.ref o, .int p1] K I J X A B Q (xsq "PailRow$Fault" out.1) out.2.1 out.2.2.1 out.2.2.2.1 out.2.2.2.2.1 out.2.2.2.2.2.1 out.2.2.2.2.2.2.1 out.2.2.2.2.2.2.2.1 kf kv := (wH_X13_any l d).1
theorem m13_both_w (l : Launch) (d : Nat) : ∀ (G : gG) (K : gK) (I : gI) (J : gJ) (X : gX) (A : gI) (B : gJ) (Q : gX) (n : Nat) (kf kv : Nat) (o : Nat) (p1 : Int32) (out : (Nat ⊕ Nat) × gK × gI × gJ × gX × gI × gJ × gX × Nat) (hf : w13_both d G.2.2 (aK G) kf kv o p1 K I J X A B Q n = some out), GMetX l yX13_both cX13_both 3 (some (.object "PailRow$Cond")) (d + 6) (d * 25 + 129) G [.ref o, .int p1] K I J X A B Q (xsq "PailRow$Fault" out.1) out.2.1 out.2.2.1 out.2.2.2.1 out.2.2.2.2.1 out.2.2.2.2.2.1 out.2.2.2.2.2.2.1 out.2.2.2.2.2.2.2.1 kf kv := (wH_X13_any l d).2.1
theorem m13_single_w (l : Launch) (d : Nat) : ∀ (G : gG) (K : gK) (I : gI) (J : gJ) (X : gX) (A : gI) (B : gJ) (Q : gX) (n : Nat) (kf kv : Nat) (o : Nat) (p1 : Int32) (out : (Nat ⊕ Nat) × gK × gI × gJ × gX × gI × gJ × gX × Nat) (hf : w13_single d G.2.2 (aK G) kf kv o p1 K I J X A B Q n = some out), GMetX l yX13_single cX13_single 6 (some (.object "PailRow$Cond")) (d + 6) (d * 25 + 129) G [.ref o, .int p1] K I J X A B Q (xsq "PailRow$Fault" out.1) out.2.1 out.2.2.1 out.2.2.2.1 out.2.2.2.2.1 out.2.2.2.2.2.1 out.2.2.2.2.2.2.1 out.2.2.2.2.2.2.2.1 kf kv := (wH_X13_any l d).2.2
noncomputable def w13_read_j28 (o : Nat) (r9 : Nat × Nat × ((Nat ⊕ Nat) × gK × gI × gJ × gX × gI × gJ × gX × Nat)) (v11 : Nat) (j28_s0 : Int32) : Option ((Nat ⊕ Nat) × gK × gI × gJ × gX × gI × gJ × gX × Nat) :=
  gdp ((0 + r9.1) ≤ 39 ∧ (0 + r9.2.1) ≤ 117) <|
  (r9.2.2.2.2.2.2.1 1007 o).bind fun a19 =>
  gdp (Sh r9.2.2.2.1 r9.2.2.2.2.2.2.1 o 10 rows10) <|
  gdp (Sh r9.2.2.2.1 r9.2.2.2.2.2.2.1 a19 0 rows0) <|
  gdp (r9.2.2.2.1 (a19 + 2) = some (.inl 1)) <|
  gdp (r9.2.2.2.2.2.2.1 4 a19 = some (a19 + 2)) <|
  (f6_mustS j28_s0 (1 : Int32) (r9.2.2.2.2.1 106 (a19 + 2)) (r9.2.2.2.2.1 107 (a19 + 2)) (r9.2.2.2.2.1 1002 o)).bind fun r17 =>
  tr r17.1 (
    lt ((ov r9.2.2.2.2.1 [(106, (a19 + 2), r17.2.1), (107, (a19 + 2), r17.2.2)])) fun Im24 =>
    gdp (r9.2.2.2.1 (a19 + 2) = some (.inl 1)) <|
    gdp ((0 + r9.1) ≤ 39 ∧ (0 + r9.2.1) ≤ 117) <|
    some ((.inl (a19 + 2)), r9.2.2.2.1, Im24, r9.2.2.2.2.2.1, r9.2.2.2.2.2.2.1, r9.2.2.2.2.2.2.2.1, r9.2.2.2.2.2.2.2.2.1, r9.2.2.2.2.2.2.2.2.2.1, r9.2.2.2.2.2.2.2.2.2.2)
    ) fun v25 =>
  lt ((ov r9.2.2.2.2.1 [(106, (a19 + 2), r17.2.1), (107, (a19 + 2), r17.2.2)])) fun Im24 =>
  gdp ((0 + r9.1) ≤ 39 ∧ (0 + r9.2.1) ≤ 117) <|
  some ((.inr v11), r9.2.2.2.1, Im24, r9.2.2.2.2.2.1, r9.2.2.2.2.2.2.1, r9.2.2.2.2.2.2.2.1, r9.2.2.2.2.2.2.2.2.1, r9.2.2.2.2.2.2.2.2.2.1, r9.2.2.2.2.2.2.2.2.2.2)

noncomputable def w13_read (zz : Nat) (adS : Nat → Nat) (o : Nat) (K : gK) (I : gI) (J : gJ) (X : gX) (A : gI) (B : gJ) (Q : gX) (n : Nat) : Option ((Nat ⊕ Nat) × gK × gI × gJ × gX × gI × gJ × gX × Nat) :=
  gdp (∃ a, K a ≠ none) <|
  gdp (K o = some (.inl 10)) <|
  lt (i_up I 1009 o (0 : Int32)) fun Im2 =>
  (X 1007 o).bind fun a4 =>
  gdp (Sh K X o 10 rows10) <|
  gdp (Sh K X a4 0 rows0) <|
  (f6_beginS (Im2 2 a4) (Im2 1000 o) (Im2 1001 o) (Im2 1002 o) (Im2 1003 o) (Im2 1004 o) (Im2 1005 o) (J 1006 o) (A (a4 + 1))).bind fun r3 =>
  lt ((ov Im2 [(1001, o, r3.1), (1002, o, r3.2.1), (1003, o, r3.2.2.1), (1004, o, r3.2.2.2.1), (1005, o, r3.2.2.2.2.1)])) fun Im7 =>
  lt ((ov J [(1006, o, r3.2.2.2.2.2)])) fun Jm8 =>
  (anyk fun k9 v9 => w13_any 30 zz adS k9 v9 o (1 : Int32) K Im7 Jm8 X A B Q n).bind fun r9 =>
  gdp (0 + r9.1 ≤ 39 ∧ 0 + r9.2.1 ≤ 117) <|
  trs r9.2.2.1 (fun b12 =>
    gdp (r9.2.2.2.1 b12 = some (.inl 1)) <|
    gdp ((0 + r9.1) ≤ 39 ∧ (0 + r9.2.1) ≤ 117) <|
    some ((.inl b12), r9.2.2.2.1, r9.2.2.2.2.1, r9.2.2.2.2.2.1, r9.2.2.2.2.2.2.1, r9.2.2.2.2.2.2.2.1, r9.2.2.2.2.2.2.2.2.1, r9.2.2.2.2.2.2.2.2.2.1, r9.2.2.2.2.2.2.2.2.2.2)
    ) fun v11 =>
  gdp (r9.2.2.2.1 o = some (.inl 10)) <|
  lt (r9.2.2.2.2.1 1003 o) fun v16 =>
  if v16 = 0 then
    w13_read_j28 o r9 v11 (1 : Int32)
  else
    w13_read_j28 o r9 v11 (0 : Int32)
set_option maxHeartbeats 4000000 in
theorem m13_read_w (l : Launch) (G : gG) (K : gK) (I : gI) (J : gJ) (X : gX) (A : gI) (B : gJ) (Q : gX) (n : Nat) (o : Nat) (out : (Nat ⊕ Nat) × gK × gI × gJ × gX × gI × gJ × gX × Nat) (hf : w13_read G.2.2 (aK G) o K I J X A B Q n = some out) : GMetX l yX13_read cX13_read 2 (some (.object "PailRow$Cond")) (37) (901) G [.ref o] K I J X A B Q (xsq "PailRow$Fault" out.1) out.2.1 out.2.2.1 out.2.2.2.1 out.2.2.2.2.1 out.2.2.2.2.2.1 out.2.2.2.2.2.2.1 out.2.2.2.2.2.2.2.1 39 117 := by
  refine GMetX.of (y := yX13_read) rfl (Nat.le_of_ble_eq_true rfl) (la := [(0, .ref o)]) rfl ?_
  intro p e s m below meth c ls hx hb hr hml hlocks hts hown hname ht hG hR hW hl
  have hown : s.vm.findClass RX13 = some m.cls := hown
  have hS : va_S (gA G) s.heap s.heap [] := va_S.rf
  have hz : (∃ a, K a ≠ none) → G.2.2 ≤ s.heap.size := fun ⟨a, h⟩ => Nat.le_of_lt (Nat.lt_of_le_of_lt (hR.ge h) (hR.lt h))
  have hend : ∀ (v : Nat), out.1 = .inr v → ∀ (pc : Nat) (H : Heap) (locs : List Loc) (ls : Array Slot), decode cX13_read pc = .ok (.areturn, 1) → RS G out.2.1 out.2.2.1 out.2.2.2.1 out.2.2.2.2.1 out.2.2.2.2.2.1 out.2.2.2.2.2.2.1 out.2.2.2.2.2.2.2.1 H → va_S (gA G) s.heap H locs → W p l e ({ frames := 37, cells := 39, slots := 117, locals := 901 } : Room) s m ([.ref o] : List Value).toArray below meth c H locs 39 117 (vx_MQ below (xQ G (xsq "PailRow$Fault" out.1) out.2.1 out.2.2.1 out.2.2.2.1 out.2.2.2.2.1 out.2.2.2.2.2.1 out.2.2.2.2.2.2.1 out.2.2.2.2.2.2.2.1) (xX G (xsq "PailRow$Fault" out.1) out.2.1 out.2.2.1 out.2.2.2.1 out.2.2.2.2.1 out.2.2.2.2.2.1 out.2.2.2.2.2.2.1 out.2.2.2.2.2.2.2.1) ([.ref o] : List Value).toArray s 39 117 (gA G)) (F0 m pc ls [.ref v]) := fun v hv pc H locs ls hd hR hS => x_aret (v := some v) hx hb hr (Or.inl ⟨_, rfl⟩) hlocks hG hR hS (by rw [hv]; rfl) hd
  have hthr : ∀ (b : Nat), out.1 = .inl b → ∀ (pc : Nat) (H : Heap) (locs : List Loc) (ls : Array Slot) (rest : List Value), out.2.1 b = some (.inl 1) → RS G out.2.1 out.2.2.1 out.2.2.2.1 out.2.2.2.2.1 out.2.2.2.2.2.1 out.2.2.2.2.2.2.1 out.2.2.2.2.2.2.2.1 H → va_S (gA G) s.heap H locs → vx_W p l e ({ frames := 37, cells := 39, slots := 117, locals := 901 } : Room) s m ([.ref o] : List Value).toArray below meth c H locs 39 117 (vx_MQ below (xQ G (xsq "PailRow$Fault" out.1) out.2.1 out.2.2.1 out.2.2.2.1 out.2.2.2.2.1 out.2.2.2.2.2.1 out.2.2.2.2.2.2.1 out.2.2.2.2.2.2.2.1) (xX G (xsq "PailRow$Fault" out.1) out.2.1 out.2.2.1 out.2.2.2.1 out.2.2.2.2.1 out.2.2.2.2.2.1 out.2.2.2.2.2.2.1 out.2.2.2.2.2.2.2.1) ([.ref o] : List Value).toArray s 39 117 (gA G)) (F0 m pc ls rest) b := fun b hn pc H locs ls rest hk hR hS => x_out (ci := 1) ht hlocks hG hR hS hk rfl (by rw [hn]; rfl)
  generalize vx_MQ below (xQ G (xsq "PailRow$Fault" out.1) out.2.1 out.2.2.1 out.2.2.2.1 out.2.2.2.2.1 out.2.2.2.2.2.1 out.2.2.2.2.2.2.1 out.2.2.2.2.2.2.2.1) (xX G (xsq "PailRow$Fault" out.1) out.2.1 out.2.2.1 out.2.2.2.1 out.2.2.2.2.1 out.2.2.2.2.2.1 out.2.2.2.2.2.2.1 out.2.2.2.2.2.2.2.1) ([.ref o] : List Value).toArray s 39 117 (gA G) = Z at hend hthr ⊢
  generalize ([.ref o] : List Value).toArray = args at hts hend hthr ⊢
  unfold w13_read at hf
  obtain ⟨k0, hf⟩ := gdp_some hf
  refine lv_aload_n hx hb dX13_read_0 rfl (lv_at hl 0 rfl) ?_
  refine lv_iconst (v := 0) hx hb dX13_read_1 li_0 ?_
  obtain ⟨k1, hf⟩ := gdp_some hf
  refine g_puti (v := (0 : Int32)) hx hb hts hown hG hR hS gPi_X13_31_10 k1 dX13_read_2 (fun H locs hR hS => ?_)
  obtain ⟨Im2, eIm2, hf⟩ := lt_some hf
  rw [← eIm2] at hR
  refine lv_aload_n hx hb dX13_read_5 rfl (lv_at hl 0 rfl) ?_
  obtain ⟨a4, ha4, hf⟩ := bind_s hf
  obtain ⟨g5, hf⟩ := gdp_some hf
  obtain ⟨g6, hf⟩ := gdp_some hf
  obtain ⟨r3, hr3, hf⟩ := bind_s hf
  refine g0_cUv (rm := (4, 86)) (As := []) (rest := []) ⟨hx, hb, hml, hown, hts⟩ hG hR hS (m6_beginS l G K Im2 J X A B Q o a4 g5 g6 ha4 (Im2 2 a4) (Im2 1000 o) (Im2 1001 o) (Im2 1002 o) (Im2 1003 o) (Im2 1004 o) (Im2 1005 o) (J 1006 o) (A (a4 + 1)) rfl rfl rfl rfl rfl rfl rfl rfl rfl r3 hr3) (va_cwU (x := ⟨"PailRow$SentenceReader", "begin", "()V"⟩) (owner := "PailRow$Reader") 0 hts gu_X13_35_10 rfl rfl rfl rfl ⟨by decide +kernel, by decide +kernel, by decide +kernel⟩ ⟨Nat.le_of_ble_eq_true rfl, Nat.le_of_ble_eq_true rfl⟩) g5.1 rfl rfl hl.1 (Nat.le_of_ble_eq_true rfl) dX13_read_6 ⟨Nat.zero_le _, Nat.zero_le _⟩ rfl (fun H locs hR hS => ?_)
  obtain ⟨Im7, eIm7, hf⟩ := lt_some hf
  obtain ⟨Jm8, eJm8, hf⟩ := lt_some hf
  rw [← eIm7, ← eJm8] at hR
  refine lv_aload_n hx hb dX13_read_9 rfl (lv_at hl 0 rfl) ?_
  refine lv_iconst (v := 1) hx hb dX13_read_10 li_1 ?_
  obtain ⟨r9, hr9, hf⟩ := bind_s hf
  replace hr9 := anyk_some hr9
  obtain ⟨c10, hf⟩ := gdp_some hf
  refine x_gosq (vx_runV (As := [.int (1 : Int32)]) (rest := []) (b := o) ⟨hx, hb, hml, hown, hts⟩ (m13_any_w l 30 G K Im7 Jm8 X A B Q n r9.1 r9.2.1 o (1 : Int32) (r9.2.2) hr9) ⟨callB_of 1 hts (lw_meth q1419) rfl rfl rfl (hts _ q117) (hts _ q1416) (by decide +kernel) ⟨Nat.le_of_ble_eq_true rfl, Nat.le_of_ble_eq_true rfl⟩, hts _ q1418, hts _ qs30⟩ (x_preV hG hR hW hS k1 rfl) rfl rfl hl.1 rfl (lv_room (Nat.le_of_ble_eq_true rfl)) dX13_read_11 ⟨c10.1, c10.2⟩) hS (fun b12 H locs hnv11 hR hS => ?_) (fun v11 H locs hvv11 hR hS => ?_)
  · have hf := trs_l hnv11 hf
    obtain ⟨k13, hf⟩ := gdp_some hf
    obtain ⟨c14, hf⟩ := gdp_some hf
    refine vx_widen c14.1 c14.2 ?_
    obtain rfl := some_i hf
    exact hthr _ rfl _ _ _ _ _ k13 hR hS
  have hf := trs_r hvv11 hf
  refine lv_astore_n (lv' := [(1, .ref v11), (0, .ref o)]) hx hb dX13_read_14 rfl hl (by decide) (by first | rfl | simp [va_rf_c]) (fun ls hl => ?_)
  refine lv_aload_n hx hb dX13_read_15 rfl (lv_at hl 1 rfl) ?_
  refine lv_aload_n hx hb dX13_read_16 rfl (lv_at hl 1 rfl) ?_
  obtain ⟨k15, hf⟩ := gdp_some hf
  obtain ⟨v16, ev16, hf⟩ := lt_some hf
  refine n_geti (v := v16) hx hb hts hown hG hR gFi_X13_43_10 k15 ev16.symm dX13_read_17 ?_
  have hj28 : ∀ (j28_s0 : Int32), w13_read_j28 o r9 v11 j28_s0 = some out → ∀ (H : Heap) (locs : List Loc) (ls : Array Slot), RS G r9.2.2.2.1 r9.2.2.2.2.1 r9.2.2.2.2.2.1 r9.2.2.2.2.2.2.1 r9.2.2.2.2.2.2.2.1 r9.2.2.2.2.2.2.2.2.1 r9.2.2.2.2.2.2.2.2.2.1 H → va_S (gA G) s.heap H locs → lv_has ls 2 [(0, .ref o), (1, .ref v11)] → W p l e ({ frames := 37, cells := 39, slots := 117, locals := 901 } : Room) s m args below meth c H locs (0 + r9.1) (0 + r9.2.1) Z (F0 m 28 ls [.int j28_s0, .ref o]) := by
    intro j28_s0 hf H locs ls hR hS hl
    unfold w13_read_j28 at hf
    refine lv_iconst (v := 1) hx hb dX13_read_28 li_1 ?_
    obtain ⟨c18, hf⟩ := gdp_some hf
    obtain ⟨a19, ha19, hf⟩ := bind_s hf
    obtain ⟨g20, hf⟩ := gdp_some hf
    obtain ⟨g21, hf⟩ := gdp_some hf
    obtain ⟨g22, hf⟩ := gdp_some hf
    obtain ⟨g23, hf⟩ := gdp_some hf
    obtain ⟨r17, hr17, hf⟩ := bind_s hf
    refine x0_gou (vx_runU (As := [.int j28_s0, .int (1 : Int32)]) (rest := []) (b := o) ⟨hx, hb, hml, hown, hts⟩ (m6_mustS l G r9.2.2.2.1 r9.2.2.2.2.1 r9.2.2.2.2.2.1 r9.2.2.2.2.2.2.1 r9.2.2.2.2.2.2.2.1 r9.2.2.2.2.2.2.2.2.1 r9.2.2.2.2.2.2.2.2.2.1 o a19 g20 g21 g22 ha19 g23 j28_s0 (1 : Int32) (r9.2.2.2.2.1 106 (a19 + 2)) (r9.2.2.2.2.1 107 (a19 + 2)) (r9.2.2.2.2.1 1002 o) rfl rfl rfl r17 hr17) (va_cwU (x := ⟨"PailRow$SentenceReader", "must", "(ZI)V"⟩) (owner := "PailRow$Reader") 2 hts gu_X13_46_10 rfl rfl rfl rfl ⟨by decide +kernel, by decide +kernel, by decide +kernel⟩ ⟨Nat.le_of_ble_eq_true rfl, Nat.le_of_ble_eq_true rfl⟩) (x_preV hG hR hW hS g20.1 rfl) rfl rfl hl.1 rfl (lv_room (Nat.le_of_ble_eq_true rfl)) dX13_read_29 ⟨c18.1, c18.2⟩) hS (fun H locs hnv25 hR hS => ?_) (fun v25 H locs hvv25 hR hS => ?_)
    · have hf := tr_n hnv25 hf
      obtain ⟨Im24, eIm24, hf⟩ := lt_some hf
      rw [← eIm24] at hR
      obtain ⟨k27, hf⟩ := gdp_some hf
      obtain ⟨c28, hf⟩ := gdp_some hf
      refine vx_widen c28.1 c28.2 ?_
      obtain rfl := some_i hf
      exact hthr _ rfl _ _ _ _ _ k27 hR hS
    have hf := tr_s hvv25 hf
    obtain ⟨Im24, eIm24, hf⟩ := lt_some hf
    rw [← eIm24] at hR
    refine lv_aload_n hx hb dX13_read_32 rfl (lv_at hl 1 rfl) ?_
    obtain ⟨c29, hf⟩ := gdp_some hf
    refine W.widen c29.1 c29.2 ?_
    obtain rfl := some_i hf
    exact hend _ rfl _ _ _ _ dX13_read_33 hR hS
  refine lv_if_ne (tgt := 27) hx hb dX13_read_20 (by decide) (fun c30 => ?_) (fun c30 => ?_)
  · have hf := ite_f c30 hf
    refine lv_iconst (v := 0) hx hb dX13_read_27 li_0 ?_
    exact hj28 (0 : Int32) hf _ _ _ hR hS (lv_sub hl [1, 0] rfl)
  · have hf := ite_t c30 hf
    refine lv_iconst (v := 1) hx hb dX13_read_23 li_1 ?_
    refine lv_goto (tgt := 28) hx hb dX13_read_24 (by decide) ?_
    exact hj28 (1 : Int32) hf _ _ _ hR hS (lv_sub hl [1, 0] rfl)
noncomputable def w8_men_j108 (zz : Nat) (adS : Nat → Nat) (o : Nat) (p1 : Int32) (n : Nat) (Km3 : gK) (n5 : Nat) (u6 : Nat) (v7 : Nat) (x27_0 : Int32 × gI × gJ × gX × gI × gJ × gX) (j108_s0 : Int32) : Option ((Nat ⊕ Nat) × gK × gI × gJ × gX × gI × gJ × gX × Nat) :=
  (x27_0.2.2.2.1 607 o).bind fun a29 =>
  gdp (Sh Km3 x27_0.2.2.2.1 o 6 rows6) <|
  gdp (Sh Km3 x27_0.2.2.2.1 a29 0 rows0) <|
  gdp (Km3 (a29 + 2) = some (.inl 1)) <|
  gdp (x27_0.2.2.2.1 4 a29 = some (a29 + 2)) <|
  (f6_mustP j108_s0 (1 : Int32) (x27_0.2.1 106 (a29 + 2)) (x27_0.2.1 107 (a29 + 2)) (x27_0.2.1 602 o)).bind fun r28 =>
  tr r28.1 (
    lt ((ov x27_0.2.1 [(106, (a29 + 2), r28.2.1), (107, (a29 + 2), r28.2.2)])) fun Im34 =>
    gdp (Km3 (a29 + 2) = some (.inl 1)) <|
    gdp (u6 ≤ 2 ∧ v7 ≤ 17) <|
    some ((.inl (a29 + 2)), Km3, Im34, x27_0.2.2.1, x27_0.2.2.2.1, x27_0.2.2.2.2.1, x27_0.2.2.2.2.2.1, x27_0.2.2.2.2.2.2, n5)
    ) fun v35 =>
  lt ((ov x27_0.2.1 [(106, (a29 + 2), r28.2.1), (107, (a29 + 2), r28.2.2)])) fun Im34 =>
  gdp (freshz zz Km3 n5) <|
  gdp (u6 + 1 ≤ 2 ∧ v7 + 5 ≤ 17) <|
  lt (a_up Km3 n5 (some (.inl 13))) fun Km41 =>
  lt (zc Im34 n5 0) fun Im42 =>
  lt (zc x27_0.2.2.1 n5 0) fun Jm43 =>
  lt (zc x27_0.2.2.2.1 n5 none) fun Xm44 =>
  lt (n5 + 1) fun n45 =>
  lt (u6 + 1) fun u46 =>
  lt (v7 + 5) fun v47 =>
  gdp (Km41 o = some (.inl 6)) <|
  lt (Im42 608 o) fun v49 =>
  gdp (u46 ≤ 2 ∧ v47 ≤ 17) <|
  (w16_init zz adS n5 v49 p1 (0 : Int32) (some n) x27_0.1 Km41 Im42 Jm43 Xm44 x27_0.2.2.2.2.1 x27_0.2.2.2.2.2.1 x27_0.2.2.2.2.2.2 n45).bind fun r50 =>
  gdp (u46 ≤ 2 ∧ v47 ≤ 17) <|
  some ((.inr n5), r50.1, r50.2.1, r50.2.2.1, r50.2.2.2.1, r50.2.2.2.2.1, r50.2.2.2.2.2.1, r50.2.2.2.2.2.2.1, r50.2.2.2.2.2.2.2)

noncomputable def w8_men_j103 (zz : Nat) (adS : Nat → Nat) (o : Nat) (p1 : Int32) (n : Nat) (Km3 : gK) (n5 : Nat) (u6 : Nat) (v7 : Nat) (x27_0 : Int32 × gI × gJ × gX × gI × gJ × gX) : Option ((Nat ⊕ Nat) × gK × gI × gJ × gX × gI × gJ × gX × Nat) :=
  w8_men_j108 zz adS o p1 n Km3 n5 u6 v7 x27_0 (1 : Int32)

noncomputable def w8_men_e27_0 (zz : Nat) (adS : Nat → Nat) (o : Nat) (p1 : Int32) (n : Nat) (Km3 : gK) (n5 : Nat) (u6 : Nat) (v7 : Nat) (x27_0 : Int32 × gI × gJ × gX × gI × gJ × gX) : Option ((Nat ⊕ Nat) × gK × gI × gJ × gX × gI × gJ × gX × Nat) :=
  if p1 = (1 : Int32) then
    w8_men_j103 zz adS o p1 n Km3 n5 u6 v7 x27_0
  else
    if x27_0.1 ≤ (1 : Int32) then
      w8_men_j108 zz adS o p1 n Km3 n5 u6 v7 x27_0 (0 : Int32)
    else
      w8_men_j103 zz adS o p1 n Km3 n5 u6 v7 x27_0

noncomputable def w8_men_e27_1 (x27_1 : (Nat ⊕ Nat) × gK × gI × gJ × gX × gI × gJ × gX × Nat) : Option ((Nat ⊕ Nat) × gK × gI × gJ × gX × gI × gJ × gX × Nat) :=
  some x27_1

noncomputable def w8_men_j64 (o : Nat) (n : Nat) (Km3 : gK) (n5 : Nat) (u6 : Nat) (v7 : Nat) (w27_3 : Int32) (w27_4 : Int32) (w27_I : gI) (w27_J : gJ) (w27_X : gX) (w27_A : gI) (w27_B : gJ) (w27_Q : gX) (r73 : Int32) (j64_s0 : Int32) : Option ((Int32 × Int32 × gI × gJ × gX × gI × gJ × gX) ⊕ ((Int32 × gI × gJ × gX × gI × gJ × gX) ⊕ ((Nat ⊕ Nat) × gK × gI × gJ × gX × gI × gJ × gX × Nat))) :=
  (w27_X 607 o).bind fun a79 =>
  gdp (Sh Km3 w27_X a79 0 rows0) <|
  gdp (Km3 (a79 + 2) = some (.inl 1)) <|
  gdp (w27_X 4 a79 = some (a79 + 2)) <|
  (f6_mustP j64_s0 (3 : Int32) (w27_I 106 (a79 + 2)) (w27_I 107 (a79 + 2)) (w27_I 602 o)).bind fun r78 =>
  tr r78.1 (
    lt ((ov w27_I [(106, (a79 + 2), r78.2.1), (107, (a79 + 2), r78.2.2)])) fun Im83 =>
    gdp (Km3 (a79 + 2) = some (.inl 1)) <|
    gdp (u6 ≤ 2 ∧ v7 ≤ 17) <|
    some (.inr (.inr ((.inl (a79 + 2)), Km3, Im83, w27_J, w27_X, w27_A, w27_B, w27_Q, n5)))
    ) fun v84 =>
  lt ((ov w27_I [(106, (a79 + 2), r78.2.1), (107, (a79 + 2), r78.2.2)])) fun Im83 =>
  lt ((1 : Int32) <<< (r73 &&& 31)) fun v88 =>
  lt (w27_4 ||| v88) fun v89 =>
  (alen Km3 n 0).bind fun n90 =>
  gdp (inb w27_3 n90) <|
  lt (a_up w27_A n (upd (w27_A n) w27_3.toNatClampNeg r73)) fun Am92 =>
  lt (w27_3 + (1 : Int32)) fun v93 =>
  (w27_X 607 o).bind fun a95 =>
  gdp (Sh Km3 w27_X a95 0 rows0) <|
  (f6_nextP (Im83 2 a95) (Im83 600 o) (Im83 601 o) (Im83 602 o) (Im83 603 o) (Im83 604 o) (Im83 605 o) (w27_J 606 o) (Am92 (a95 + 1))).bind fun r94 =>
  lt ((ov Im83 [(601, o, r94.1), (602, o, r94.2.1), (603, o, r94.2.2.1), (604, o, r94.2.2.2.1), (605, o, r94.2.2.2.2.1)])) fun Im97 =>
  lt ((ov w27_J [(606, o, r94.2.2.2.2.2)])) fun Jm98 =>
  some (.inl (v93, v89, Im97, Jm98, w27_X, Am92, w27_B, w27_Q))

noncomputable def w8_men_j63 (o : Nat) (n : Nat) (Km3 : gK) (n5 : Nat) (u6 : Nat) (v7 : Nat) (w27_3 : Int32) (w27_4 : Int32) (w27_I : gI) (w27_J : gJ) (w27_X : gX) (w27_A : gI) (w27_B : gJ) (w27_Q : gX) (r73 : Int32) : Option ((Int32 × Int32 × gI × gJ × gX × gI × gJ × gX) ⊕ ((Int32 × gI × gJ × gX × gI × gJ × gX) ⊕ ((Nat ⊕ Nat) × gK × gI × gJ × gX × gI × gJ × gX × Nat))) :=
  w8_men_j64 o n Km3 n5 u6 v7 w27_3 w27_4 w27_I w27_J w27_X w27_A w27_B w27_Q r73 (0 : Int32)

noncomputable def w8_men_s27 (adS : Nat → Nat) (o : Nat) (n : Nat) (Km3 : gK) (n5 : Nat) (u6 : Nat) (v7 : Nat) (w27_3 : Int32) (w27_4 : Int32) (w27_I : gI) (w27_J : gJ) (w27_X : gX) (w27_A : gI) (w27_B : gJ) (w27_Q : gX) : Option ((Int32 × Int32 × gI × gJ × gX × gI × gJ × gX) ⊕ ((Int32 × gI × gJ × gX × gI × gJ × gX) ⊕ ((Nat ⊕ Nat) × gK × gI × gJ × gX × gI × gJ × gX × Nat))) :=
  (w27_X 607 o).bind fun a56 =>
  gdp (Sh Km3 w27_X o 6 rows6) <|
  gdp (Sh Km3 w27_X a56 0 rows0) <|
  gdp (∀ j, j < 10 → w27_Q (a56 + 3) j = some (adS (0 + j))) <|
  gdp (∀ j, j < 4 → w27_Q (a56 + 4) j = some (adS (10 + j))) <|
  gdp (∀ j, j < 5 → w27_Q (a56 + 5) j = some (adS (14 + j))) <|
  gdp (∀ j, j < 10 → w27_Q (a56 + 6) j = some (adS (19 + j))) <|
  (f6_isNameP (w27_I 602 o) (w27_I 603 o) (w27_I 605 o) (w27_A (a56 + 1))).bind fun r55 =>
  if r55 = 0 then
    some (.inr (.inl (w27_3, w27_I, w27_J, w27_X, w27_A, w27_B, w27_Q)))
  else
    gdp (Km3 o = some (.inl 6)) <|
    lt (w27_X 609 o) fun x65 =>
    (x65).bind fun a66 =>
    gdp (Km3 a66 = some (.inl 0)) <|
    lt (w27_X 9 a66) fun x68 =>
    (x68).bind fun a69 =>
    gdp (Km3 a69 = some (.inl 2)) <|
    lt (w27_X 200 a69) fun x71 =>
    (x71).bind fun a72 =>
    (w27_X 607 o).bind fun a74 =>
    gdp (Sh Km3 w27_X a72 3 rows3) <|
    gdp (Sh Km3 w27_X a74 0 rows0) <|
    gdp (∀ (j m : Nat), (w27_Q (a72 + 1)) j = some m → Km3 m = some (.inl 12)) <|
    (f6_manP (w27_I 303 a72) (w27_J 606 o) (w27_Q (a72 + 1)) (w27_J 1200)).bind fun r73 =>
    if r73 = (-1 : Int32) then
      w8_men_j63 o n Km3 n5 u6 v7 w27_3 w27_4 w27_I w27_J w27_X w27_A w27_B w27_Q r73
    else
      lt (w27_4 >>> (r73 &&& 31)) fun v100 =>
      lt (v100 &&& (1 : Int32)) fun v101 =>
      if v101 = 0 then
        w8_men_j64 o n Km3 n5 u6 v7 w27_3 w27_4 w27_I w27_J w27_X w27_A w27_B w27_Q r73 (1 : Int32)
      else
        w8_men_j63 o n Km3 n5 u6 v7 w27_3 w27_4 w27_I w27_J w27_X w27_A w27_B w27_Q r73

noncomputable def w8_men (zz : Nat) (adS : Nat → Nat) (o : Nat) (p1 : Int32) (K : gK) (I : gI) (J : gJ) (X : gX) (A : gI) (B : gJ) (Q : gX) (n : Nat) : Option ((Nat ⊕ Nat) × gK × gI × gJ × gX × gI × gJ × gX × Nat) :=
  gdp (∃ a, K a ≠ none) <|
  gdp (freshz zz K n) <|
  gdp (0 + 1 ≤ 2 ∧ 0 + 12 ≤ 17) <|
  lt (a_up K n (some (.inr (0, 12)))) fun Km3 =>
  lt (a_up A n (fun _ => 0)) fun Am4 =>
  lt (n + 1) fun n5 =>
  lt (0 + 1) fun u6 =>
  lt (0 + 12) fun v7 =>
  gdp (u6 ≤ 2 ∧ v7 ≤ 17) <|
  (X 607 o).bind fun a10 =>
  gdp (Sh Km3 X o 6 rows6) <|
  gdp (Sh Km3 X a10 0 rows0) <|
  gdp (∀ j, j < 10 → Q (a10 + 3) j = some (adS (0 + j))) <|
  gdp (∀ j, j < 4 → Q (a10 + 4) j = some (adS (10 + j))) <|
  gdp (∀ j, j < 5 → Q (a10 + 5) j = some (adS (14 + j))) <|
  gdp (∀ j, j < 10 → Q (a10 + 6) j = some (adS (19 + j))) <|
  (f6_isNameP (I 602 o) (I 603 o) (I 605 o) (Am4 (a10 + 1))).bind fun r8 =>
  (X 607 o).bind fun a18 =>
  gdp (Sh Km3 X a18 0 rows0) <|
  gdp (Km3 (a18 + 2) = some (.inl 1)) <|
  gdp (X 4 a18 = some (a18 + 2)) <|
  (f6_mustP r8 (1 : Int32) (I 106 (a18 + 2)) (I 107 (a18 + 2)) (I 602 o)).bind fun r17 =>
  tr r17.1 (
    lt ((ov I [(106, (a18 + 2), r17.2.1), (107, (a18 + 2), r17.2.2)])) fun Im22 =>
    gdp (Km3 (a18 + 2) = some (.inl 1)) <|
    gdp (u6 ≤ 2 ∧ v7 ≤ 17) <|
    some ((.inl (a18 + 2)), Km3, Im22, J, X, Am4, B, Q, n5)
    ) fun v23 =>
  lt ((ov I [(106, (a18 + 2), r17.2.1), (107, (a18 + 2), r17.2.2)])) fun Im22 =>
  (whl (fun (s27 : Int32 × Int32 × gI × gJ × gX × gI × gJ × gX) => w8_men_s27 adS o n Km3 n5 u6 v7 s27.1 s27.2.1 s27.2.2.1 s27.2.2.2.1 s27.2.2.2.2.1 s27.2.2.2.2.2.1 s27.2.2.2.2.2.2.1 s27.2.2.2.2.2.2.2) FU ((0 : Int32), (0 : Int32), Im22, J, X, Am4, B, Q)).bind fun rl27 =>
  Sum.elim (w8_men_e27_0 zz adS o p1 n Km3 n5 u6 v7) (w8_men_e27_1) rl27
set_option maxHeartbeats 4000000 in
theorem m8_men_w (l : Launch) (G : gG) (K : gK) (I : gI) (J : gJ) (X : gX) (A : gI) (B : gJ) (Q : gX) (n : Nat) (o : Nat) (p1 : Int32) (out : (Nat ⊕ Nat) × gK × gI × gJ × gX × gI × gJ × gX × Nat) (hf : w8_men G.2.2 (aK G) o p1 K I J X A B Q n = some out) : GMetX l yX8_men cX8_men 6 (some (.object "PailRow$Thing")) (7) (149) G [.ref o, .int p1] K I J X A B Q (xsq "PailRow$Fault" out.1) out.2.1 out.2.2.1 out.2.2.2.1 out.2.2.2.2.1 out.2.2.2.2.2.1 out.2.2.2.2.2.2.1 out.2.2.2.2.2.2.2.1 2 17 := by
  refine GMetX.of (y := yX8_men) rfl (Nat.le_of_ble_eq_true rfl) (la := [(0, .ref o), (1, .int p1)]) rfl ?_
  intro p e s m below meth c ls hx hb hr hml hlocks hts hown hname ht hG hR hW hl
  have hown : s.vm.findClass RX8 = some m.cls := hown
  have hS : va_S (gA G) s.heap s.heap [] := va_S.rf
  have hz : (∃ a, K a ≠ none) → G.2.2 ≤ s.heap.size := fun ⟨a, h⟩ => Nat.le_of_lt (Nat.lt_of_le_of_lt (hR.ge h) (hR.lt h))
  have hend : ∀ (v : Nat), out.1 = .inr v → ∀ (pc : Nat) (H : Heap) (locs : List Loc) (ls : Array Slot), decode cX8_men pc = .ok (.areturn, 1) → RS G out.2.1 out.2.2.1 out.2.2.2.1 out.2.2.2.2.1 out.2.2.2.2.2.1 out.2.2.2.2.2.2.1 out.2.2.2.2.2.2.2.1 H → va_S (gA G) s.heap H locs → W p l e ({ frames := 7, cells := 2, slots := 17, locals := 149 } : Room) s m ([.ref o, .int p1] : List Value).toArray below meth c H locs 2 17 (vx_MQ below (xQ G (xsq "PailRow$Fault" out.1) out.2.1 out.2.2.1 out.2.2.2.1 out.2.2.2.2.1 out.2.2.2.2.2.1 out.2.2.2.2.2.2.1 out.2.2.2.2.2.2.2.1) (xX G (xsq "PailRow$Fault" out.1) out.2.1 out.2.2.1 out.2.2.2.1 out.2.2.2.2.1 out.2.2.2.2.2.1 out.2.2.2.2.2.2.1 out.2.2.2.2.2.2.2.1) ([.ref o, .int p1] : List Value).toArray s 2 17 (gA G)) (F0 m pc ls [.ref v]) := fun v hv pc H locs ls hd hR hS => x_aret (v := some v) hx hb hr (Or.inl ⟨_, rfl⟩) hlocks hG hR hS (by rw [hv]; rfl) hd
  have hthr : ∀ (b : Nat), out.1 = .inl b → ∀ (pc : Nat) (H : Heap) (locs : List Loc) (ls : Array Slot) (rest : List Value), out.2.1 b = some (.inl 1) → RS G out.2.1 out.2.2.1 out.2.2.2.1 out.2.2.2.2.1 out.2.2.2.2.2.1 out.2.2.2.2.2.2.1 out.2.2.2.2.2.2.2.1 H → va_S (gA G) s.heap H locs → vx_W p l e ({ frames := 7, cells := 2, slots := 17, locals := 149 } : Room) s m ([.ref o, .int p1] : List Value).toArray below meth c H locs 2 17 (vx_MQ below (xQ G (xsq "PailRow$Fault" out.1) out.2.1 out.2.2.1 out.2.2.2.1 out.2.2.2.2.1 out.2.2.2.2.2.1 out.2.2.2.2.2.2.1 out.2.2.2.2.2.2.2.1) (xX G (xsq "PailRow$Fault" out.1) out.2.1 out.2.2.1 out.2.2.2.1 out.2.2.2.2.1 out.2.2.2.2.2.1 out.2.2.2.2.2.2.1 out.2.2.2.2.2.2.2.1) ([.ref o, .int p1] : List Value).toArray s 2 17 (gA G)) (F0 m pc ls rest) b := fun b hn pc H locs ls rest hk hR hS => x_out (ci := 1) ht hlocks hG hR hS hk rfl (by rw [hn]; rfl)
  generalize vx_MQ below (xQ G (xsq "PailRow$Fault" out.1) out.2.1 out.2.2.1 out.2.2.2.1 out.2.2.2.2.1 out.2.2.2.2.2.1 out.2.2.2.2.2.2.1 out.2.2.2.2.2.2.2.1) (xX G (xsq "PailRow$Fault" out.1) out.2.1 out.2.2.1 out.2.2.2.1 out.2.2.2.2.1 out.2.2.2.2.2.1 out.2.2.2.2.2.2.1 out.2.2.2.2.2.2.2.1) ([.ref o, .int p1] : List Value).toArray s 2 17 (gA G) = Z at hend hthr ⊢
  generalize ([.ref o, .int p1] : List Value).toArray = args at hts hend hthr ⊢
  unfold w8_men at hf
  obtain ⟨k0, hf⟩ := gdp_some hf
  refine lv_bipush (v := 12) hx hb dX8_men_0 lb_12 ?_
  obtain ⟨c1, hf⟩ := gdp_some hf
  obtain ⟨c2, hf⟩ := gdp_some hf
  refine s_newa (n := n) (N := 12) hx hb (hts _ q344) hG hR c1 hS (hz k0) (by decide) (by decide) (Nat.le_of_ble_eq_true rfl) c2.1 c2.2 dX8_men_2 (fun H hR hS => ?_)
  obtain ⟨Km3, eKm3, hf⟩ := lt_some hf
  obtain ⟨Am4, eAm4, hf⟩ := lt_some hf
  rw [← eKm3, ← eAm4] at hR
  obtain ⟨n5, en5, hf⟩ := lt_some hf
  obtain ⟨u6, eu6, hf⟩ := lt_some hf
  obtain ⟨v7, ev7, hf⟩ := lt_some hf
  refine W.widen (k := u6) (n := v7) (Nat.le_of_eq eu6.symm) (Nat.le_of_eq ev7.symm) ?_
  refine lv_astore_n (lv' := [(2, .ref n), (0, .ref o), (1, .int p1)]) hx hb dX8_men_4 rfl hl (by decide) (by first | rfl | simp [va_rf_c]) (fun ls hl => ?_)
  refine lv_iconst (v := 0) hx hb dX8_men_5 li_0 ?_
  refine lv_istore_n (lv' := [(3, .int (0 : Int32)), (2, .ref n), (0, .ref o), (1, .int p1)]) hx hb dX8_men_6 rfl hl (by decide) rfl (fun ls hl => ?_)
  refine lv_iconst (v := 0) hx hb dX8_men_7 li_0 ?_
  refine lv_istore (lv' := [(4, .int (0 : Int32)), (3, .int (0 : Int32)), (2, .ref n), (0, .ref o), (1, .int p1)]) hx hb dX8_men_8 hl (by decide) rfl (fun ls hl => ?_)
  refine lv_aload_n hx hb dX8_men_10 rfl (lv_at hl 3 rfl) ?_
  refine lv_aload_n hx hb dX8_men_11 rfl (lv_at hl 3 rfl) ?_
  obtain ⟨c9, hf⟩ := gdp_some hf
  obtain ⟨a10, ha10, hf⟩ := bind_s hf
  obtain ⟨g11, hf⟩ := gdp_some hf
  obtain ⟨g12, hf⟩ := gdp_some hf
  obtain ⟨g13, hf⟩ := gdp_some hf
  obtain ⟨g14, hf⟩ := gdp_some hf
  obtain ⟨g15, hf⟩ := gdp_some hf
  obtain ⟨g16, hf⟩ := gdp_some hf
  obtain ⟨r8, hr8, hf⟩ := bind_s hf
  refine x0_gor (vx_runU (As := []) (rest := [.ref o]) (b := o) ⟨hx, hb, hml, hown, hts⟩ (m6_isNameP l G Km3 I J X Am4 B Q o a10 g11 g12 ha10 g13 g14 g15 g16 (I 602 o) (I 603 o) (I 605 o) (Am4 (a10 + 1)) rfl rfl rfl rfl r8 hr8) (va_cwU (x := ⟨"PailRow$PlanReader", "isName", "()Z"⟩) (owner := "PailRow$Reader") 0 hts gu_X8_100_6 rfl rfl rfl rfl ⟨by decide +kernel, by decide +kernel, by decide +kernel⟩ ⟨Nat.le_of_ble_eq_true rfl, Nat.le_of_ble_eq_true rfl⟩) (x_preV hG hR hW hS g11.1 rfl) rfl rfl hl.1 rfl (lv_room (Nat.le_of_ble_eq_true rfl)) dX8_men_12 ⟨c9.1, c9.2⟩) hS (fun H locs hR hS => ?_)
  refine lv_iconst (v := 1) hx hb dX8_men_15 li_1 ?_
  obtain ⟨a18, ha18, hf⟩ := bind_s hf
  obtain ⟨g19, hf⟩ := gdp_some hf
  obtain ⟨g20, hf⟩ := gdp_some hf
  obtain ⟨g21, hf⟩ := gdp_some hf
  obtain ⟨r17, hr17, hf⟩ := bind_s hf
  refine x0_gou (vx_runU (As := [.int r8, .int (1 : Int32)]) (rest := []) (b := o) ⟨hx, hb, hml, hown, hts⟩ (m6_mustP l G Km3 I J X Am4 B Q o a18 g11 g19 g20 ha18 g21 r8 (1 : Int32) (I 106 (a18 + 2)) (I 107 (a18 + 2)) (I 602 o) rfl rfl rfl r17 hr17) (va_cwU (x := ⟨"PailRow$PlanReader", "must", "(ZI)V"⟩) (owner := "PailRow$Reader") 2 hts gu_X8_36_6 rfl rfl rfl rfl ⟨by decide +kernel, by decide +kernel, by decide +kernel⟩ ⟨Nat.le_of_ble_eq_true rfl, Nat.le_of_ble_eq_true rfl⟩) (x_preV hG hR hW hS g11.1 rfl) rfl rfl hl.1 rfl (lv_room (Nat.le_of_ble_eq_true rfl)) dX8_men_16 ⟨c9.1, c9.2⟩) hS (fun H locs hnv23 hR hS => ?_) (fun v23 H locs hvv23 hR hS => ?_)
  · have hf := tr_n hnv23 hf
    obtain ⟨Im22, eIm22, hf⟩ := lt_some hf
    rw [← eIm22] at hR
    obtain ⟨k25, hf⟩ := gdp_some hf
    obtain ⟨c26, hf⟩ := gdp_some hf
    refine vx_widen c26.1 c26.2 ?_
    obtain rfl := some_i hf
    exact hthr _ rfl _ _ _ _ _ k25 hR hS
  have hf := tr_s hvv23 hf
  obtain ⟨Im22, eIm22, hf⟩ := lt_some hf
  rw [← eIm22] at hR
  obtain ⟨rl27, hw27, hfo27⟩ := bind_s hf
  have hx27_0 : ∀ (x27_0 : Int32 × gI × gJ × gX × gI × gJ × gX), w8_men_e27_0 G.2.2 (aK G) o p1 n Km3 n5 u6 v7 x27_0 = some out → ∀ (H : Heap) (locs : List Loc) (ls : Array Slot), RS G Km3 x27_0.2.1 x27_0.2.2.1 x27_0.2.2.2.1 x27_0.2.2.2.2.1 x27_0.2.2.2.2.2.1 x27_0.2.2.2.2.2.2 H → va_S (gA G) s.heap H locs → lv_has ls 6 [(0, .ref o), (1, .int p1), (2, .ref n), (3, .int x27_0.1)] → W p l e ({ frames := 7, cells := 2, slots := 17, locals := 149 } : Room) s m args below meth c H locs u6 v7 Z (F0 m 92 ls []) := by
    intro x27_0 hf H locs ls hR hS hl
    unfold w8_men_e27_0 at hf
    refine lv_aload_n hx hb dX8_men_92 rfl (lv_at hl 0 rfl) ?_
    refine lv_iload_n hx hb dX8_men_93 rfl (lv_at hl 1 rfl) ?_
    refine lv_iconst (v := 1) hx hb dX8_men_94 li_1 ?_
    have hj108 : ∀ (j108_s0 : Int32), w8_men_j108 G.2.2 (aK G) o p1 n Km3 n5 u6 v7 x27_0 j108_s0 = some out → ∀ (H : Heap) (locs : List Loc) (ls : Array Slot), RS G Km3 x27_0.2.1 x27_0.2.2.1 x27_0.2.2.2.1 x27_0.2.2.2.2.1 x27_0.2.2.2.2.2.1 x27_0.2.2.2.2.2.2 H → va_S (gA G) s.heap H locs → lv_has ls 6 [(0, .ref o), (1, .int p1), (2, .ref n), (3, .int x27_0.1)] → W p l e ({ frames := 7, cells := 2, slots := 17, locals := 149 } : Room) s m args below meth c H locs u6 v7 Z (F0 m 108 ls [.int j108_s0, .ref o]) := by
      intro j108_s0 hf H locs ls hR hS hl
      unfold w8_men_j108 at hf
      refine lv_iconst (v := 1) hx hb dX8_men_108 li_1 ?_
      obtain ⟨a29, ha29, hf⟩ := bind_s hf
      obtain ⟨g30, hf⟩ := gdp_some hf
      obtain ⟨g31, hf⟩ := gdp_some hf
      obtain ⟨g32, hf⟩ := gdp_some hf
      obtain ⟨g33, hf⟩ := gdp_some hf
      obtain ⟨r28, hr28, hf⟩ := bind_s hf
      refine x0_gou (vx_runU (As := [.int j108_s0, .int (1 : Int32)]) (rest := []) (b := o) ⟨hx, hb, hml, hown, hts⟩ (m6_mustP l G Km3 x27_0.2.1 x27_0.2.2.1 x27_0.2.2.2.1 x27_0.2.2.2.2.1 x27_0.2.2.2.2.2.1 x27_0.2.2.2.2.2.2 o a29 g30 g31 g32 ha29 g33 j108_s0 (1 : Int32) (x27_0.2.1 106 (a29 + 2)) (x27_0.2.1 107 (a29 + 2)) (x27_0.2.1 602 o) rfl rfl rfl r28 hr28) (va_cwU (x := ⟨"PailRow$PlanReader", "must", "(ZI)V"⟩) (owner := "PailRow$Reader") 2 hts gu_X8_36_6 rfl rfl rfl rfl ⟨by decide +kernel, by decide +kernel, by decide +kernel⟩ ⟨Nat.le_of_ble_eq_true rfl, Nat.le_of_ble_eq_true rfl⟩) (x_preV hG hR hW hS g30.1 rfl) rfl rfl hl.1 rfl (lv_room (Nat.le_of_ble_eq_true rfl)) dX8_men_109 ⟨c9.1, c9.2⟩) hS (fun H locs hnv35 hR hS => ?_) (fun v35 H locs hvv35 hR hS => ?_)
      · have hf := tr_n hnv35 hf
        obtain ⟨Im34, eIm34, hf⟩ := lt_some hf
        rw [← eIm34] at hR
        obtain ⟨k37, hf⟩ := gdp_some hf
        obtain ⟨c38, hf⟩ := gdp_some hf
        refine vx_widen c38.1 c38.2 ?_
        obtain rfl := some_i hf
        exact hthr _ rfl _ _ _ _ _ k37 hR hS
      have hf := tr_s hvv35 hf
      obtain ⟨Im34, eIm34, hf⟩ := lt_some hf
      rw [← eIm34] at hR
      obtain ⟨c39, hf⟩ := gdp_some hf
      obtain ⟨c40, hf⟩ := gdp_some hf
      refine s_new (n := n5) (ci := 13) (T := TX16) (N := 5) hx hb hts in_X16 tyX16 tyX16_ok hown (hts _ q1074) (hts _ q1075) (hts _ q128) hG hR c39 hS (hz k0) rfl (by decide) hdv_13 c40.1 c40.2 dX8_men_112 (fun H hR hS => ?_)
      obtain ⟨Km41, eKm41, hf⟩ := lt_some hf
      obtain ⟨Im42, eIm42, hf⟩ := lt_some hf
      obtain ⟨Jm43, eJm43, hf⟩ := lt_some hf
      obtain ⟨Xm44, eXm44, hf⟩ := lt_some hf
      rw [← eKm41, ← eIm42, ← eJm43, ← eXm44] at hR
      obtain ⟨n45, en45, hf⟩ := lt_some hf
      obtain ⟨u46, eu46, hf⟩ := lt_some hf
      obtain ⟨v47, ev47, hf⟩ := lt_some hf
      refine W.widen (k := u46) (n := v47) (Nat.le_of_eq eu46.symm) (Nat.le_of_eq ev47.symm) ?_
      refine lv_dup hx hb dX8_men_115 rfl ?_
      refine lv_aload_n hx hb dX8_men_116 rfl (lv_at hl 0 rfl) ?_
      obtain ⟨k48, hf⟩ := gdp_some hf
      obtain ⟨v49, ev49, hf⟩ := lt_some hf
      refine n_geti (v := v49) hx hb hts hown hG hR gFi_X8_20_6 k48 ev49.symm dX8_men_117 ?_
      refine lv_iload_n hx hb dX8_men_120 rfl (lv_at hl 1 rfl) ?_
      refine lv_iconst (v := 0) hx hb dX8_men_121 li_0 ?_
      refine lv_aload_n hx hb dX8_men_122 rfl (lv_at hl 2 rfl) ?_
      refine lv_iload_n hx hb dX8_men_123 rfl (lv_at hl 3 rfl) ?_
      obtain ⟨c51, hf⟩ := gdp_some hf
      obtain ⟨r50, hr50, hf⟩ := bind_s hf
      refine x0_gor (vx_runI (As := [.int v49, .int p1, .int (0 : Int32), .ref n, .int x27_0.1]) (rest := [.ref n5]) (b := n5) ⟨hx, hb, hml, hown, hts⟩ (m16_init_w l G Km41 Im42 Jm43 Xm44 x27_0.2.2.2.2.1 x27_0.2.2.2.2.2.1 x27_0.2.2.2.2.2.2 n45 n5 v49 p1 (0 : Int32) (some n) x27_0.1 r50 hr50) ⟨callB_of 5 hts (lw_meth q1078) rfl rfl rfl (hts _ q128) (hts _ q1076) (by decide +kernel) ⟨Nat.le_of_ble_eq_true rfl, Nat.le_of_ble_eq_true rfl⟩, rfl, hts _ q1077⟩ (x_preS hG hR hW hS) rfl rfl hl.1 rfl (lv_room (Nat.le_of_ble_eq_true rfl)) dX8_men_124 ⟨c51.1, c51.2⟩) hS (fun H locs hR hS => ?_)
      obtain ⟨c52, hf⟩ := gdp_some hf
      refine W.widen c52.1 c52.2 ?_
      obtain rfl := some_i hf
      exact hend _ rfl _ _ _ _ dX8_men_127 hR hS
    have hj103 : ∀ (_ : Unit), w8_men_j103 G.2.2 (aK G) o p1 n Km3 n5 u6 v7 x27_0 = some out → ∀ (H : Heap) (locs : List Loc) (ls : Array Slot), RS G Km3 x27_0.2.1 x27_0.2.2.1 x27_0.2.2.2.1 x27_0.2.2.2.2.1 x27_0.2.2.2.2.2.1 x27_0.2.2.2.2.2.2 H → va_S (gA G) s.heap H locs → lv_has ls 6 [(0, .ref o), (1, .int p1), (2, .ref n), (3, .int x27_0.1)] → W p l e ({ frames := 7, cells := 2, slots := 17, locals := 149 } : Room) s m args below meth c H locs u6 v7 Z (F0 m 103 ls [.ref o]) := by
      intro _ hf H locs ls hR hS hl
      unfold w8_men_j103 at hf
      refine lv_iconst (v := 1) hx hb dX8_men_103 li_1 ?_
      refine lv_goto (tgt := 108) hx hb dX8_men_104 (by decide) ?_
      exact hj108 (1 : Int32) hf _ _ _ hR hS (lv_sub hl [0, 1, 2, 3] rfl)
    refine lv_icmp_eq (tgt := 103) hx hb dX8_men_95 (by decide) (fun c53 => ?_) (fun c53 => ?_)
    · have hf := ite_t c53 hf
      exact hj103 () hf _ _ _ hR hS (lv_sub hl [0, 1, 2, 3] rfl)
    · have hf := ite_f c53 hf
      refine lv_iload_n hx hb dX8_men_98 rfl (lv_at hl 3 rfl) ?_
      refine lv_iconst (v := 1) hx hb dX8_men_99 li_1 ?_
      refine lv_icmp_le (tgt := 107) hx hb dX8_men_100 (by decide) (fun c54 => ?_) (fun c54 => ?_)
      · have hf := ite_t c54 hf
        refine lv_iconst (v := 0) hx hb dX8_men_107 li_0 ?_
        exact hj108 (0 : Int32) hf _ _ _ hR hS (lv_sub hl [0, 1, 2, 3] rfl)
      · have hf := ite_f c54 hf
        exact hj103 () hf _ _ _ hR hS (lv_sub hl [0, 1, 2, 3] rfl)
  have hx27_1 : ∀ (x27_1 : (Nat ⊕ Nat) × gK × gI × gJ × gX × gI × gJ × gX × Nat), w8_men_e27_1 x27_1 = some out → ∀ (v : Nat), x27_1.1 = .inr v → ∀ (pc : Nat) (H : Heap) (locs : List Loc) (ls : Array Slot), decode cX8_men pc = .ok (.areturn, 1) → RS G x27_1.2.1 x27_1.2.2.1 x27_1.2.2.2.1 x27_1.2.2.2.2.1 x27_1.2.2.2.2.2.1 x27_1.2.2.2.2.2.2.1 x27_1.2.2.2.2.2.2.2.1 H → va_S (gA G) s.heap H locs → W p l e ({ frames := 7, cells := 2, slots := 17, locals := 149 } : Room) s m args below meth c H locs 2 17 Z (F0 m pc ls [.ref v]) := by
    intro x27_1 hf v hv pc H locs ls hd hR hS
    unfold w8_men_e27_1 at hf
    obtain rfl := some_i hf
    exact hend _ hv _ _ _ _ hd hR hS
  have hy27_1 : ∀ (x27_1 : (Nat ⊕ Nat) × gK × gI × gJ × gX × gI × gJ × gX × Nat), w8_men_e27_1 x27_1 = some out → ∀ (b : Nat), x27_1.1 = .inl b → ∀ (pc : Nat) (H : Heap) (locs : List Loc) (ls : Array Slot) (rest : List Value), x27_1.2.1 b = some (.inl 1) → RS G x27_1.2.1 x27_1.2.2.1 x27_1.2.2.2.1 x27_1.2.2.2.2.1 x27_1.2.2.2.2.2.1 x27_1.2.2.2.2.2.2.1 x27_1.2.2.2.2.2.2.2.1 H → va_S (gA G) s.heap H locs → vx_W p l e ({ frames := 7, cells := 2, slots := 17, locals := 149 } : Room) s m args below meth c H locs 2 17 Z (F0 m pc ls rest) b := by
    intro x27_1 hf b hn pc H locs ls rest hk hR hS
    unfold w8_men_e27_1 at hf
    obtain rfl := some_i hf
    exact hthr _ hn _ _ _ _ _ hk hR hS
  refine whl_walk (P := fun (s27 : Int32 × Int32 × gI × gJ × gX × gI × gJ × gX) => ∀ (H : Heap) (locs : List Loc) (ls : Array Slot), RS G Km3 s27.2.2.1 s27.2.2.2.1 s27.2.2.2.2.1 s27.2.2.2.2.2.1 s27.2.2.2.2.2.2.1 s27.2.2.2.2.2.2.2 H → va_S (gA G) s.heap H locs → lv_has ls 6 [(0, .ref o), (1, .int p1), (2, .ref n), (3, .int s27.1), (4, .int s27.2.1)] → W p l e ({ frames := 7, cells := 2, slots := 17, locals := 149 } : Room) s m args below meth c H locs u6 v7 Z (F0 m 19 ls [])) (r := rl27) ?_ FU _ hw27 _ _ _ hR hS (lv_sub hl [3, 4, 2, 1, 0] rfl)
  clear hR hS hl hf
  intro s27 o27 hf hk27 H locs ls hR hS hl
  obtain ⟨w27_3, w27_4, w27_I, w27_J, w27_X, w27_A, w27_B, w27_Q⟩ := s27
  have hf : w8_men_s27 (aK G) o n Km3 n5 u6 v7 w27_3 w27_4 w27_I w27_J w27_X w27_A w27_B w27_Q = some o27 := hf
  have hR : RS G Km3 w27_I w27_J w27_X w27_A w27_B w27_Q H := hR
  have hl : lv_has ls 6 [(0, .ref o), (1, .int p1), (2, .ref n), (3, .int w27_3), (4, .int w27_4)] := hl
  unfold w8_men_s27 at hf
  refine lv_aload_n hx hb dX8_men_19 rfl (lv_at hl 0 rfl) ?_
  obtain ⟨a56, ha56, hf⟩ := bind_s hf
  obtain ⟨g57, hf⟩ := gdp_some hf
  obtain ⟨g58, hf⟩ := gdp_some hf
  obtain ⟨g59, hf⟩ := gdp_some hf
  obtain ⟨g60, hf⟩ := gdp_some hf
  obtain ⟨g61, hf⟩ := gdp_some hf
  obtain ⟨g62, hf⟩ := gdp_some hf
  obtain ⟨r55, hr55, hf⟩ := bind_s hf
  refine x0_gor (vx_runU (As := []) (rest := []) (b := o) ⟨hx, hb, hml, hown, hts⟩ (m6_isNameP l G Km3 w27_I w27_J w27_X w27_A w27_B w27_Q o a56 g57 g58 ha56 g59 g60 g61 g62 (w27_I 602 o) (w27_I 603 o) (w27_I 605 o) (w27_A (a56 + 1)) rfl rfl rfl rfl r55 hr55) (va_cwU (x := ⟨"PailRow$PlanReader", "isName", "()Z"⟩) (owner := "PailRow$Reader") 0 hts gu_X8_100_6 rfl rfl rfl rfl ⟨by decide +kernel, by decide +kernel, by decide +kernel⟩ ⟨Nat.le_of_ble_eq_true rfl, Nat.le_of_ble_eq_true rfl⟩) (x_preV hG hR hW hS g57.1 rfl) rfl rfl hl.1 rfl (lv_room (Nat.le_of_ble_eq_true rfl)) dX8_men_20 ⟨c9.1, c9.2⟩) hS (fun H locs hR hS => ?_)
  refine lv_if_eq (tgt := 92) hx hb dX8_men_23 (by decide) (fun c63 => ?_) (fun c63 => ?_)
  · have hf := ite_t c63 hf
    obtain rfl := some_i hf
    replace hk27 : _ = rl27 := hk27
    subst hk27
    exact hx27_0 (w27_3, w27_I, w27_J, w27_X, w27_A, w27_B, w27_Q) (el_l hfo27) _ _ _ hR hS (lv_sub hl [0, 1, 2, 3] rfl)
  · have hf := ite_f c63 hf
    refine lv_aload_n hx hb dX8_men_26 rfl (lv_at hl 0 rfl) ?_
    refine lv_aload_n hx hb dX8_men_27 rfl (lv_at hl 0 rfl) ?_
    obtain ⟨k64, hf⟩ := gdp_some hf
    obtain ⟨x65, ex65, hf⟩ := lt_some hf
    refine g_getx hx hb hts hown hG hR gFx_X8_3_6 k64 dX8_men_28 ?_
    rw [← ex65]
    obtain ⟨a66, ha66, hf⟩ := bind_s hf
    try rw [ha66]
    obtain ⟨k67, hf⟩ := gdp_some hf
    obtain ⟨x68, ex68, hf⟩ := lt_some hf
    refine g_getx hx hb hts hown hG hR gFx_X8_78_0 k67 dX8_men_31 ?_
    rw [← ex68]
    obtain ⟨a69, ha69, hf⟩ := bind_s hf
    try rw [ha69]
    obtain ⟨k70, hf⟩ := gdp_some hf
    obtain ⟨x71, ex71, hf⟩ := lt_some hf
    refine g_getx hx hb hts hown hG hR gFx_X8_82_2 k70 dX8_men_34 ?_
    rw [← ex71]
    obtain ⟨a72, ha72, hf⟩ := bind_s hf
    try rw [ha72]
    obtain ⟨a74, ha74, hf⟩ := bind_s hf
    obtain ⟨g75, hf⟩ := gdp_some hf
    obtain ⟨g76, hf⟩ := gdp_some hf
    obtain ⟨g77, hf⟩ := gdp_some hf
    obtain ⟨r73, hr73, hf⟩ := bind_s hf
    refine g0_cU (rm := (0, 0)) (As := [.ref a72]) (rest := []) ⟨hx, hb, hml, hown, hts⟩ hG hR hS (m6_manP l G Km3 w27_I w27_J w27_X w27_A w27_B w27_Q o a72 a74 g57 g75 g76 ha74 (w27_I 303 a72) (w27_J 606 o) (w27_Q (a72 + 1)) (w27_J 1200) rfl rfl rfl rfl g77 r73 hr73) (va_cwU (x := ⟨"PailRow$PlanReader", "man", "(LPailRow$Yard;)I"⟩) (owner := "PailRow$Reader") 1 hts gu_X8_104_6 rfl rfl rfl rfl ⟨by decide +kernel, by decide +kernel, by decide +kernel⟩ ⟨Nat.le_of_ble_eq_true rfl, Nat.le_of_ble_eq_true rfl⟩) g57.1 rfl rfl hl.1 (Nat.le_of_ble_eq_true rfl) dX8_men_37 ⟨c9.1, c9.2⟩ rfl (fun H locs hR hS => ?_)
    refine lv_istore (lv' := [(5, .int r73), (0, .ref o), (1, .int p1), (2, .ref n), (3, .int w27_3), (4, .int w27_4)]) hx hb dX8_men_40 hl (by decide) rfl (fun ls hl => ?_)
    refine lv_aload_n hx hb dX8_men_42 rfl (lv_at hl 1 rfl) ?_
    refine lv_iload hx hb dX8_men_43 (lv_at hl 0 rfl) ?_
    refine lv_iconst (v := -1) hx hb dX8_men_45 li_m1 ?_
    have hj64 : ∀ (j64_s0 : Int32), w8_men_j64 o n Km3 n5 u6 v7 w27_3 w27_4 w27_I w27_J w27_X w27_A w27_B w27_Q r73 j64_s0 = some o27 → ∀ (H : Heap) (locs : List Loc) (ls : Array Slot), RS G Km3 w27_I w27_J w27_X w27_A w27_B w27_Q H → va_S (gA G) s.heap H locs → lv_has ls 6 [(0, .ref o), (1, .int p1), (2, .ref n), (3, .int w27_3), (4, .int w27_4), (5, .int r73)] → W p l e ({ frames := 7, cells := 2, slots := 17, locals := 149 } : Room) s m args below meth c H locs u6 v7 Z (F0 m 64 ls [.int j64_s0, .ref o]) := by
      intro j64_s0 hf H locs ls hR hS hl
      unfold w8_men_j64 at hf
      refine lv_iconst (v := 3) hx hb dX8_men_64 li_3 ?_
      obtain ⟨a79, ha79, hf⟩ := bind_s hf
      obtain ⟨g80, hf⟩ := gdp_some hf
      obtain ⟨g81, hf⟩ := gdp_some hf
      obtain ⟨g82, hf⟩ := gdp_some hf
      obtain ⟨r78, hr78, hf⟩ := bind_s hf
      refine x0_gou (vx_runU (As := [.int j64_s0, .int (3 : Int32)]) (rest := []) (b := o) ⟨hx, hb, hml, hown, hts⟩ (m6_mustP l G Km3 w27_I w27_J w27_X w27_A w27_B w27_Q o a79 g57 g80 g81 ha79 g82 j64_s0 (3 : Int32) (w27_I 106 (a79 + 2)) (w27_I 107 (a79 + 2)) (w27_I 602 o) rfl rfl rfl r78 hr78) (va_cwU (x := ⟨"PailRow$PlanReader", "must", "(ZI)V"⟩) (owner := "PailRow$Reader") 2 hts gu_X8_36_6 rfl rfl rfl rfl ⟨by decide +kernel, by decide +kernel, by decide +kernel⟩ ⟨Nat.le_of_ble_eq_true rfl, Nat.le_of_ble_eq_true rfl⟩) (x_preV hG hR hW hS g57.1 rfl) rfl rfl hl.1 rfl (lv_room (Nat.le_of_ble_eq_true rfl)) dX8_men_65 ⟨c9.1, c9.2⟩) hS (fun H locs hnv84 hR hS => ?_) (fun v84 H locs hvv84 hR hS => ?_)
      · have hf := tr_n hnv84 hf
        obtain ⟨Im83, eIm83, hf⟩ := lt_some hf
        rw [← eIm83] at hR
        obtain ⟨k86, hf⟩ := gdp_some hf
        obtain ⟨c87, hf⟩ := gdp_some hf
        refine vx_widen c87.1 c87.2 ?_
        obtain rfl := some_i hf
        replace hk27 : _ = rl27 := hk27
        subst hk27
        exact hy27_1 ((.inl (a79 + 2)), Km3, Im83, w27_J, w27_X, w27_A, w27_B, w27_Q, n5) (el_r hfo27) _ rfl _ _ _ _ _ k86 hR hS
      have hf := tr_s hvv84 hf
      obtain ⟨Im83, eIm83, hf⟩ := lt_some hf
      rw [← eIm83] at hR
      refine lv_iload hx hb dX8_men_68 (lv_at hl 4 rfl) ?_
      refine lv_iconst (v := 1) hx hb dX8_men_70 li_1 ?_
      refine lv_iload hx hb dX8_men_71 (lv_at hl 5 rfl) ?_
      obtain ⟨v88, ev88, hf⟩ := lt_some hf
      refine n_ishl hx hb ev88 dX8_men_73 ?_
      obtain ⟨v89, ev89, hf⟩ := lt_some hf
      refine n_ior hx hb ev89 dX8_men_74 ?_
      refine lv_istore (lv' := [(4, .int v89), (0, .ref o), (1, .int p1), (2, .ref n), (3, .int w27_3), (5, .int r73)]) hx hb dX8_men_75 hl (by decide) rfl (fun ls hl => ?_)
      refine lv_aload_n hx hb dX8_men_77 rfl (lv_at hl 3 rfl) ?_
      refine lv_iload_n hx hb dX8_men_78 rfl (lv_at hl 4 rfl) ?_
      refine lv_iload hx hb dX8_men_79 (lv_at hl 5 rfl) ?_
      obtain ⟨n90, hn90, hf⟩ := bind_s hf
      have kn90 := alen_k hn90
      obtain ⟨c91, hf⟩ := gdp_some hf
      refine g_iast hx hb hG hR hS kn90 c91 dX8_men_81 (fun H locs hR hS => ?_)
      obtain ⟨Am92, eAm92, hf⟩ := lt_some hf
      rw [← eAm92] at hR
      obtain ⟨v93, ev93, hf⟩ := lt_some hf
      refine lv_iinc (k := 4) (v := v93) (lv' := [(3, .int v93), (4, .int v89), (0, .ref o), (1, .int p1), (2, .ref n), (5, .int r73)]) hx hb dX8_men_82 hl rfl (by rw [ev93]; rfl) (by decide) rfl (fun ls hl => ?_)
      refine lv_aload_n hx hb dX8_men_85 rfl (lv_at hl 2 rfl) ?_
      obtain ⟨a95, ha95, hf⟩ := bind_s hf
      obtain ⟨g96, hf⟩ := gdp_some hf
      obtain ⟨r94, hr94, hf⟩ := bind_s hf
      refine g0_cUv (rm := (3, 65)) (As := []) (rest := []) ⟨hx, hb, hml, hown, hts⟩ hG hR hS (m6_nextP l G Km3 Im83 w27_J w27_X Am92 w27_B w27_Q o a95 g57 g96 ha95 (Im83 2 a95) (Im83 600 o) (Im83 601 o) (Im83 602 o) (Im83 603 o) (Im83 604 o) (Im83 605 o) (w27_J 606 o) (Am92 (a95 + 1)) rfl rfl rfl rfl rfl rfl rfl rfl rfl r94 hr94) (va_cwU (x := ⟨"PailRow$PlanReader", "next", "()V"⟩) (owner := "PailRow$Reader") 0 hts gu_X8_43_6 rfl rfl rfl rfl ⟨by decide +kernel, by decide +kernel, by decide +kernel⟩ ⟨Nat.le_of_ble_eq_true rfl, Nat.le_of_ble_eq_true rfl⟩) g57.1 rfl rfl hl.1 (Nat.le_of_ble_eq_true rfl) dX8_men_86 ⟨c9.1, c9.2⟩ rfl (fun H locs hR hS => ?_)
      obtain ⟨Im97, eIm97, hf⟩ := lt_some hf
      obtain ⟨Jm98, eJm98, hf⟩ := lt_some hf
      rw [← eIm97, ← eJm98] at hR
      refine lv_goto (tgt := 19) hx hb dX8_men_89 (by decide) ?_
      obtain rfl := some_i hf
      exact hk27 _ _ _ hR hS (lv_sub hl [2, 3, 4, 0, 1] rfl)
    have hj63 : ∀ (_ : Unit), w8_men_j63 o n Km3 n5 u6 v7 w27_3 w27_4 w27_I w27_J w27_X w27_A w27_B w27_Q r73 = some o27 → ∀ (H : Heap) (locs : List Loc) (ls : Array Slot), RS G Km3 w27_I w27_J w27_X w27_A w27_B w27_Q H → va_S (gA G) s.heap H locs → lv_has ls 6 [(0, .ref o), (1, .int p1), (2, .ref n), (3, .int w27_3), (4, .int w27_4), (5, .int r73)] → W p l e ({ frames := 7, cells := 2, slots := 17, locals := 149 } : Room) s m args below meth c H locs u6 v7 Z (F0 m 63 ls [.ref o]) := by
      intro _ hf H locs ls hR hS hl
      unfold w8_men_j63 at hf
      refine lv_iconst (v := 0) hx hb dX8_men_63 li_0 ?_
      exact hj64 (0 : Int32) hf _ _ _ hR hS (lv_sub hl [0, 1, 2, 3, 4, 5] rfl)
    refine lv_icmp_eq (tgt := 63) hx hb dX8_men_46 (by decide) (fun c99 => ?_) (fun c99 => ?_)
    · have hf := ite_t c99 hf
      exact hj63 () hf _ _ _ hR hS (lv_sub hl [1, 2, 3, 4, 5, 0] rfl)
    · have hf := ite_f c99 hf
      refine lv_iload hx hb dX8_men_49 (lv_at hl 5 rfl) ?_
      refine lv_iload hx hb dX8_men_51 (lv_at hl 0 rfl) ?_
      obtain ⟨v100, ev100, hf⟩ := lt_some hf
      refine n_ishr hx hb ev100 dX8_men_53 ?_
      refine lv_iconst (v := 1) hx hb dX8_men_54 li_1 ?_
      obtain ⟨v101, ev101, hf⟩ := lt_some hf
      refine n_iand hx hb ev101 dX8_men_55 ?_
      refine lv_if_ne (tgt := 63) hx hb dX8_men_56 (by decide) (fun c102 => ?_) (fun c102 => ?_)
      · have hf := ite_f c102 hf
        exact hj63 () hf _ _ _ hR hS (lv_sub hl [1, 2, 3, 4, 5, 0] rfl)
      · have hf := ite_t c102 hf
        refine lv_iconst (v := 1) hx hb dX8_men_59 li_1 ?_
        refine lv_goto (tgt := 64) hx hb dX8_men_60 (by decide) ?_
        exact hj64 (1 : Int32) hf _ _ _ hR hS (lv_sub hl [1, 2, 3, 4, 5, 0] rfl)
noncomputable def w8_thing_j132 (zz : Nat) (adS : Nat → Nat) (o : Nat) (K : gK) (n : Nat) (r7 : Int32) (j132_s0 : Int32) (j132_I : gI) (j132_J : gJ) (j132_X : gX) (j132_A : gI) (j132_B : gJ) (j132_Q : gX) : Option ((Nat ⊕ Nat) × gK × gI × gJ × gX × gI × gJ × gX × Nat) :=
  (j132_X 607 o).bind fun a42 =>
  gdp (Sh K j132_X o 6 rows6) <|
  gdp (Sh K j132_X a42 0 rows0) <|
  gdp (K (a42 + 2) = some (.inl 1)) <|
  gdp (j132_X 4 a42 = some (a42 + 2)) <|
  (f6_mustP j132_s0 (2 : Int32) (j132_I 106 (a42 + 2)) (j132_I 107 (a42 + 2)) (j132_I 602 o)).bind fun r41 =>
  tr r41.1 (
    lt ((ov j132_I [(106, (a42 + 2), r41.2.1), (107, (a42 + 2), r41.2.2)])) fun Im47 =>
    gdp (K (a42 + 2) = some (.inl 1)) <|
    gdp (0 ≤ 2 ∧ 0 ≤ 17) <|
    some ((.inl (a42 + 2)), K, Im47, j132_J, j132_X, j132_A, j132_B, j132_Q, n)
    ) fun v48 =>
  lt ((ov j132_I [(106, (a42 + 2), r41.2.1), (107, (a42 + 2), r41.2.2)])) fun Im47 =>
  gdp (freshz zz K n) <|
  gdp (0 + 1 ≤ 2 ∧ 0 + 5 ≤ 17) <|
  lt (a_up K n (some (.inl 13))) fun Km54 =>
  lt (zc Im47 n 0) fun Im55 =>
  lt (zc j132_J n 0) fun Jm56 =>
  lt (zc j132_X n none) fun Xm57 =>
  lt (n + 1) fun n58 =>
  lt (0 + 1) fun u59 =>
  lt (0 + 5) fun v60 =>
  gdp (Km54 o = some (.inl 6)) <|
  lt (Im55 608 o) fun v62 =>
  lt (Im55 604 o) fun v63 =>
  gdp (u59 ≤ 2 ∧ v60 ≤ 17) <|
  (w16_init zz adS n v62 r7 v63 none (0 : Int32) Km54 Im55 Jm56 Xm57 j132_A j132_B j132_Q n58).bind fun r64 =>
  (r64.2.2.2.1 607 o).bind fun a67 =>
  gdp (Sh r64.1 r64.2.2.2.1 o 6 rows6) <|
  gdp (Sh r64.1 r64.2.2.2.1 a67 0 rows0) <|
  (f6_nextP (r64.2.1 2 a67) (r64.2.1 600 o) (r64.2.1 601 o) (r64.2.1 602 o) (r64.2.1 603 o) (r64.2.1 604 o) (r64.2.1 605 o) (r64.2.2.1 606 o) (r64.2.2.2.2.1 (a67 + 1))).bind fun r66 =>
  lt ((ov r64.2.1 [(601, o, r66.1), (602, o, r66.2.1), (603, o, r66.2.2.1), (604, o, r66.2.2.2.1), (605, o, r66.2.2.2.2.1)])) fun Im70 =>
  lt ((ov r64.2.2.1 [(606, o, r66.2.2.2.2.2)])) fun Jm71 =>
  gdp (u59 ≤ 2 ∧ v60 ≤ 17) <|
  some ((.inr n), r64.1, Im70, Jm71, r64.2.2.2.1, r64.2.2.2.2.1, r64.2.2.2.2.2.1, r64.2.2.2.2.2.2.1, r64.2.2.2.2.2.2.2)

noncomputable def w8_thing_j77 (zz : Nat) (adS : Nat → Nat) (o : Nat) (K : gK) (X : gX) (A : gI) (B : gJ) (Q : gX) (n : Nat) (a3 : Nat) (r7 : Int32) (Im26 : gI) (Jm27 : gJ) (j77_s0 : Int32) : Option ((Nat ⊕ Nat) × gK × gI × gJ × gX × gI × gJ × gX × Nat) :=
  (X 607 o).bind fun a32 =>
  gdp (Sh K X a32 0 rows0) <|
  gdp (K (a32 + 2) = some (.inl 1)) <|
  gdp (X 4 a32 = some (a32 + 2)) <|
  (f6_mustP j77_s0 (1 : Int32) (Im26 106 (a32 + 2)) (Im26 107 (a32 + 2)) (Im26 602 o)).bind fun r31 =>
  tr r31.1 (
    lt ((ov Im26 [(106, (a32 + 2), r31.2.1), (107, (a32 + 2), r31.2.2)])) fun Im36 =>
    gdp (K (a32 + 2) = some (.inl 1)) <|
    gdp (0 ≤ 2 ∧ 0 ≤ 17) <|
    some ((.inl (a32 + 2)), K, Im36, Jm27, X, A, B, Q, n)
    ) fun v37 =>
  lt ((ov Im26 [(106, (a32 + 2), r31.2.1), (107, (a32 + 2), r31.2.2)])) fun Im36 =>
  if r7 = (3 : Int32) then
    lt (X 9 a3) fun x83 =>
    (x83).bind fun a84 =>
    gdp (K a84 = some (.inl 2)) <|
    lt (X 200 a84) fun x86 =>
    lt (Im36 604 o) fun v87 =>
    (x86).bind fun a88 =>
    gdp (Sh K X a88 3 rows3) <|
    (f4_isAim v87 (Im36 304 a88) (Im36 305 a88)).bind fun r89 =>
    w8_thing_j132 zz adS o K n r7 r89 Im36 Jm27 X A B Q
  else
    lt (Im36 604 o) fun v74 =>
    lt (X 9 a3) fun x75 =>
    (x75).bind fun a76 =>
    gdp (K a76 = some (.inl 2)) <|
    lt (X 200 a76) fun x78 =>
    (x78).bind fun a79 =>
    gdp (K a79 = some (.inl 3)) <|
    lt (Im36 304 a79) fun v81 =>
    if v81 ≤ v74 then
      w8_thing_j132 zz adS o K n r7 (0 : Int32) Im36 Jm27 X A B Q
    else
      w8_thing_j132 zz adS o K n r7 (1 : Int32) Im36 Jm27 X A B Q

noncomputable def w8_thing_j23 (zz : Nat) (adS : Nat → Nat) (o : Nat) (K : gK) (I : gI) (J : gJ) (X : gX) (A : gI) (B : gJ) (Q : gX) (n : Nat) (a3 : Nat) (r7 : Int32) (j23_s0 : Int32) : Option ((Nat ⊕ Nat) × gK × gI × gJ × gX × gI × gJ × gX × Nat) :=
  (X 607 o).bind fun a14 =>
  gdp (Sh K X a14 0 rows0) <|
  gdp (K (a14 + 2) = some (.inl 1)) <|
  gdp (X 4 a14 = some (a14 + 2)) <|
  (f6_mustP j23_s0 (1 : Int32) (I 106 (a14 + 2)) (I 107 (a14 + 2)) (I 602 o)).bind fun r13 =>
  tr r13.1 (
    lt ((ov I [(106, (a14 + 2), r13.2.1), (107, (a14 + 2), r13.2.2)])) fun Im18 =>
    gdp (K (a14 + 2) = some (.inl 1)) <|
    gdp (0 ≤ 2 ∧ 0 ≤ 17) <|
    some ((.inl (a14 + 2)), K, Im18, J, X, A, B, Q, n)
    ) fun v19 =>
  lt ((ov I [(106, (a14 + 2), r13.2.1), (107, (a14 + 2), r13.2.2)])) fun Im18 =>
  (X 607 o).bind fun a24 =>
  gdp (Sh K X a24 0 rows0) <|
  (f6_nextP (Im18 2 a24) (Im18 600 o) (Im18 601 o) (Im18 602 o) (Im18 603 o) (Im18 604 o) (Im18 605 o) (J 606 o) (A (a24 + 1))).bind fun r23 =>
  lt ((ov Im18 [(601, o, r23.1), (602, o, r23.2.1), (603, o, r23.2.2.1), (604, o, r23.2.2.2.1), (605, o, r23.2.2.2.2.1)])) fun Im26 =>
  lt ((ov J [(606, o, r23.2.2.2.2.2)])) fun Jm27 =>
  if (2 : Int32) ≤ r7 then
    if r7 = (2 : Int32) then
      gdp (freshz zz K n) <|
      gdp (0 + 1 ≤ 2 ∧ 0 + 5 ≤ 17) <|
      lt (a_up K n (some (.inl 13))) fun Km94 =>
      lt (zc Im26 n 0) fun Im95 =>
      lt (zc Jm27 n 0) fun Jm96 =>
      lt (zc X n none) fun Xm97 =>
      lt (n + 1) fun n98 =>
      lt (0 + 1) fun u99 =>
      lt (0 + 5) fun v100 =>
      gdp (Km94 o = some (.inl 6)) <|
      lt (Im95 608 o) fun v102 =>
      gdp (u99 ≤ 2 ∧ v100 ≤ 17) <|
      (w16_init zz adS n v102 r7 (0 : Int32) none (0 : Int32) Km94 Im95 Jm96 Xm97 A B Q n98).bind fun r103 =>
      gdp (u99 ≤ 2 ∧ v100 ≤ 17) <|
      some ((.inr n), r103.1, r103.2.1, r103.2.2.1, r103.2.2.2.1, r103.2.2.2.2.1, r103.2.2.2.2.2.1, r103.2.2.2.2.2.2.1, r103.2.2.2.2.2.2.2)
    else
      lt (Im26 603 o) fun v30 =>
      if v30 = (2 : Int32) then
        w8_thing_j77 zz adS o K X A B Q n a3 r7 Im26 Jm27 (1 : Int32)
      else
        w8_thing_j77 zz adS o K X A B Q n a3 r7 Im26 Jm27 (0 : Int32)
  else
    gdp (0 + 2 ≤ 2 ∧ 0 + 17 ≤ 17) <|
    (w8_men zz adS o r7 K Im26 Jm27 X A B Q n).bind fun r106 =>
    trs r106.1 (fun b109 =>
      gdp (r106.2.1 b109 = some (.inl 1)) <|
      gdp ((0 + 2) ≤ 2 ∧ (0 + 17) ≤ 17) <|
      some ((.inl b109), r106.2.1, r106.2.2.1, r106.2.2.2.1, r106.2.2.2.2.1, r106.2.2.2.2.2.1, r106.2.2.2.2.2.2.1, r106.2.2.2.2.2.2.2.1, r106.2.2.2.2.2.2.2.2)
      ) fun v108 =>
    gdp ((0 + 2) ≤ 2 ∧ (0 + 17) ≤ 17) <|
    some ((.inr v108), r106.2.1, r106.2.2.1, r106.2.2.2.1, r106.2.2.2.2.1, r106.2.2.2.2.2.1, r106.2.2.2.2.2.2.1, r106.2.2.2.2.2.2.2.1, r106.2.2.2.2.2.2.2.2)

noncomputable def w8_thing (zz : Nat) (adS : Nat → Nat) (o : Nat) (K : gK) (I : gI) (J : gJ) (X : gX) (A : gI) (B : gJ) (Q : gX) (n : Nat) : Option ((Nat ⊕ Nat) × gK × gI × gJ × gX × gI × gJ × gX × Nat) :=
  gdp (∃ a, K a ≠ none) <|
  gdp (K o = some (.inl 6)) <|
  lt (X 609 o) fun x2 =>
  (x2).bind fun a3 =>
  gdp (K a3 = some (.inl 0)) <|
  lt (X 7 a3) fun x5 =>
  (x5).bind fun a6 =>
  (X 607 o).bind fun a8 =>
  gdp (Sh K X o 6 rows6) <|
  gdp (Sh K X a8 0 rows0) <|
  gdp (K a6 = some (.inr (8, 5))) <|
  gdp (∀ j, j < 5 → Q a6 j = some (adS (14 + j))) <|
  (f6_findP 5 14 (I 602 o) (I 603 o) (I 605 o) (A (a8 + 1))).bind fun r7 =>
  if r7 = (-1 : Int32) then
    w8_thing_j23 zz adS o K I J X A B Q n a3 r7 (0 : Int32)
  else
    w8_thing_j23 zz adS o K I J X A B Q n a3 r7 (1 : Int32)
set_option maxHeartbeats 4000000 in
theorem m8_thing_w (l : Launch) (G : gG) (K : gK) (I : gI) (J : gJ) (X : gX) (A : gI) (B : gJ) (Q : gX) (n : Nat) (o : Nat) (out : (Nat ⊕ Nat) × gK × gI × gJ × gX × gI × gJ × gX × Nat) (hf : w8_thing G.2.2 (aK G) o K I J X A B Q n = some out) : GMetX l yX8_thing cX8_thing 3 (some (.object "PailRow$Thing")) (8) (174) G [.ref o] K I J X A B Q (xsq "PailRow$Fault" out.1) out.2.1 out.2.2.1 out.2.2.2.1 out.2.2.2.2.1 out.2.2.2.2.2.1 out.2.2.2.2.2.2.1 out.2.2.2.2.2.2.2.1 2 17 := by
  refine GMetX.of (y := yX8_thing) rfl (Nat.le_of_ble_eq_true rfl) (la := [(0, .ref o)]) rfl ?_
  intro p e s m below meth c ls hx hb hr hml hlocks hts hown hname ht hG hR hW hl
  have hown : s.vm.findClass RX8 = some m.cls := hown
  have hS : va_S (gA G) s.heap s.heap [] := va_S.rf
  have hz : (∃ a, K a ≠ none) → G.2.2 ≤ s.heap.size := fun ⟨a, h⟩ => Nat.le_of_lt (Nat.lt_of_le_of_lt (hR.ge h) (hR.lt h))
  have hend : ∀ (v : Nat), out.1 = .inr v → ∀ (pc : Nat) (H : Heap) (locs : List Loc) (ls : Array Slot), decode cX8_thing pc = .ok (.areturn, 1) → RS G out.2.1 out.2.2.1 out.2.2.2.1 out.2.2.2.2.1 out.2.2.2.2.2.1 out.2.2.2.2.2.2.1 out.2.2.2.2.2.2.2.1 H → va_S (gA G) s.heap H locs → W p l e ({ frames := 8, cells := 2, slots := 17, locals := 174 } : Room) s m ([.ref o] : List Value).toArray below meth c H locs 2 17 (vx_MQ below (xQ G (xsq "PailRow$Fault" out.1) out.2.1 out.2.2.1 out.2.2.2.1 out.2.2.2.2.1 out.2.2.2.2.2.1 out.2.2.2.2.2.2.1 out.2.2.2.2.2.2.2.1) (xX G (xsq "PailRow$Fault" out.1) out.2.1 out.2.2.1 out.2.2.2.1 out.2.2.2.2.1 out.2.2.2.2.2.1 out.2.2.2.2.2.2.1 out.2.2.2.2.2.2.2.1) ([.ref o] : List Value).toArray s 2 17 (gA G)) (F0 m pc ls [.ref v]) := fun v hv pc H locs ls hd hR hS => x_aret (v := some v) hx hb hr (Or.inl ⟨_, rfl⟩) hlocks hG hR hS (by rw [hv]; rfl) hd
  have hthr : ∀ (b : Nat), out.1 = .inl b → ∀ (pc : Nat) (H : Heap) (locs : List Loc) (ls : Array Slot) (rest : List Value), out.2.1 b = some (.inl 1) → RS G out.2.1 out.2.2.1 out.2.2.2.1 out.2.2.2.2.1 out.2.2.2.2.2.1 out.2.2.2.2.2.2.1 out.2.2.2.2.2.2.2.1 H → va_S (gA G) s.heap H locs → vx_W p l e ({ frames := 8, cells := 2, slots := 17, locals := 174 } : Room) s m ([.ref o] : List Value).toArray below meth c H locs 2 17 (vx_MQ below (xQ G (xsq "PailRow$Fault" out.1) out.2.1 out.2.2.1 out.2.2.2.1 out.2.2.2.2.1 out.2.2.2.2.2.1 out.2.2.2.2.2.2.1 out.2.2.2.2.2.2.2.1) (xX G (xsq "PailRow$Fault" out.1) out.2.1 out.2.2.1 out.2.2.2.1 out.2.2.2.2.1 out.2.2.2.2.2.1 out.2.2.2.2.2.2.1 out.2.2.2.2.2.2.2.1) ([.ref o] : List Value).toArray s 2 17 (gA G)) (F0 m pc ls rest) b := fun b hn pc H locs ls rest hk hR hS => x_out (ci := 1) ht hlocks hG hR hS hk rfl (by rw [hn]; rfl)
  generalize vx_MQ below (xQ G (xsq "PailRow$Fault" out.1) out.2.1 out.2.2.1 out.2.2.2.1 out.2.2.2.2.1 out.2.2.2.2.2.1 out.2.2.2.2.2.2.1 out.2.2.2.2.2.2.2.1) (xX G (xsq "PailRow$Fault" out.1) out.2.1 out.2.2.1 out.2.2.2.1 out.2.2.2.2.1 out.2.2.2.2.2.1 out.2.2.2.2.2.2.1 out.2.2.2.2.2.2.2.1) ([.ref o] : List Value).toArray s 2 17 (gA G) = Z at hend hthr ⊢
  generalize ([.ref o] : List Value).toArray = args at hts hend hthr ⊢
  unfold w8_thing at hf
  obtain ⟨k0, hf⟩ := gdp_some hf
  refine lv_aload_n hx hb dX8_thing_0 rfl (lv_at hl 0 rfl) ?_
  refine lv_aload_n hx hb dX8_thing_1 rfl (lv_at hl 0 rfl) ?_
  obtain ⟨k1, hf⟩ := gdp_some hf
  obtain ⟨x2, ex2, hf⟩ := lt_some hf
  refine g_getx hx hb hts hown hG hR gFx_X8_3_6 k1 dX8_thing_2 ?_
  rw [← ex2]
  obtain ⟨a3, ha3, hf⟩ := bind_s hf
  try rw [ha3]
  obtain ⟨k4, hf⟩ := gdp_some hf
  obtain ⟨x5, ex5, hf⟩ := lt_some hf
  refine g_getx hx hb hts hown hG hR gFx_X8_62_0 k4 dX8_thing_5 ?_
  rw [← ex5]
  obtain ⟨a6, ha6, hf⟩ := bind_s hf
  try rw [ha6]
  obtain ⟨a8, ha8, hf⟩ := bind_s hf
  obtain ⟨g9, hf⟩ := gdp_some hf
  obtain ⟨g10, hf⟩ := gdp_some hf
  obtain ⟨g11, hf⟩ := gdp_some hf
  obtain ⟨g12, hf⟩ := gdp_some hf
  obtain ⟨r7, hr7, hf⟩ := bind_s hf
  refine x0_gor (vx_runU (As := [.ref a6]) (rest := []) (b := o) ⟨hx, hb, hml, hown, hts⟩ (m6_findP l G K I J X A B Q o a8 g9 g10 ha8 a6 5 14 g11 (by decide) g12 (I 602 o) (I 603 o) (I 605 o) (A (a8 + 1)) rfl rfl rfl rfl r7 hr7) (va_cwU (x := ⟨"PailRow$PlanReader", "find", "([Ljava/lang/String;)I"⟩) (owner := "PailRow$Reader") 1 hts gu_X8_65_6 rfl rfl rfl rfl ⟨by decide +kernel, by decide +kernel, by decide +kernel⟩ ⟨Nat.le_of_ble_eq_true rfl, Nat.le_of_ble_eq_true rfl⟩) (x_preV hG hR hW hS g9.1 rfl) rfl rfl hl.1 rfl (lv_room (Nat.le_of_ble_eq_true rfl)) dX8_thing_8 ⟨Nat.zero_le _, Nat.zero_le _⟩) hS (fun H locs hR hS => ?_)
  refine lv_istore_n (lv' := [(1, .int r7), (0, .ref o)]) hx hb dX8_thing_11 rfl hl (by decide) rfl (fun ls hl => ?_)
  refine lv_aload_n hx hb dX8_thing_12 rfl (lv_at hl 1 rfl) ?_
  refine lv_iload_n hx hb dX8_thing_13 rfl (lv_at hl 0 rfl) ?_
  refine lv_iconst (v := -1) hx hb dX8_thing_14 li_m1 ?_
  have hj23 : ∀ (j23_s0 : Int32), w8_thing_j23 G.2.2 (aK G) o K I J X A B Q n a3 r7 j23_s0 = some out → ∀ (H : Heap) (locs : List Loc) (ls : Array Slot), RS G K I J X A B Q H → va_S (gA G) s.heap H locs → lv_has ls 3 [(0, .ref o), (1, .int r7)] → W p l e ({ frames := 8, cells := 2, slots := 17, locals := 174 } : Room) s m args below meth c H locs 0 0 Z (F0 m 23 ls [.int j23_s0, .ref o]) := by
    intro j23_s0 hf H locs ls hR hS hl
    unfold w8_thing_j23 at hf
    refine lv_iconst (v := 1) hx hb dX8_thing_23 li_1 ?_
    obtain ⟨a14, ha14, hf⟩ := bind_s hf
    obtain ⟨g15, hf⟩ := gdp_some hf
    obtain ⟨g16, hf⟩ := gdp_some hf
    obtain ⟨g17, hf⟩ := gdp_some hf
    obtain ⟨r13, hr13, hf⟩ := bind_s hf
    refine x0_gou (vx_runU (As := [.int j23_s0, .int (1 : Int32)]) (rest := []) (b := o) ⟨hx, hb, hml, hown, hts⟩ (m6_mustP l G K I J X A B Q o a14 g9 g15 g16 ha14 g17 j23_s0 (1 : Int32) (I 106 (a14 + 2)) (I 107 (a14 + 2)) (I 602 o) rfl rfl rfl r13 hr13) (va_cwU (x := ⟨"PailRow$PlanReader", "must", "(ZI)V"⟩) (owner := "PailRow$Reader") 2 hts gu_X8_36_6 rfl rfl rfl rfl ⟨by decide +kernel, by decide +kernel, by decide +kernel⟩ ⟨Nat.le_of_ble_eq_true rfl, Nat.le_of_ble_eq_true rfl⟩) (x_preV hG hR hW hS g9.1 rfl) rfl rfl hl.1 rfl (lv_room (Nat.le_of_ble_eq_true rfl)) dX8_thing_24 ⟨Nat.zero_le _, Nat.zero_le _⟩) hS (fun H locs hnv19 hR hS => ?_) (fun v19 H locs hvv19 hR hS => ?_)
    · have hf := tr_n hnv19 hf
      obtain ⟨Im18, eIm18, hf⟩ := lt_some hf
      rw [← eIm18] at hR
      obtain ⟨k21, hf⟩ := gdp_some hf
      obtain ⟨c22, hf⟩ := gdp_some hf
      refine vx_widen c22.1 c22.2 ?_
      obtain rfl := some_i hf
      exact hthr _ rfl _ _ _ _ _ k21 hR hS
    have hf := tr_s hvv19 hf
    obtain ⟨Im18, eIm18, hf⟩ := lt_some hf
    rw [← eIm18] at hR
    refine lv_aload_n hx hb dX8_thing_27 rfl (lv_at hl 0 rfl) ?_
    obtain ⟨a24, ha24, hf⟩ := bind_s hf
    obtain ⟨g25, hf⟩ := gdp_some hf
    obtain ⟨r23, hr23, hf⟩ := bind_s hf
    refine g0_cUv (rm := (3, 65)) (As := []) (rest := []) ⟨hx, hb, hml, hown, hts⟩ hG hR hS (m6_nextP l G K Im18 J X A B Q o a24 g9 g25 ha24 (Im18 2 a24) (Im18 600 o) (Im18 601 o) (Im18 602 o) (Im18 603 o) (Im18 604 o) (Im18 605 o) (J 606 o) (A (a24 + 1)) rfl rfl rfl rfl rfl rfl rfl rfl rfl r23 hr23) (va_cwU (x := ⟨"PailRow$PlanReader", "next", "()V"⟩) (owner := "PailRow$Reader") 0 hts gu_X8_43_6 rfl rfl rfl rfl ⟨by decide +kernel, by decide +kernel, by decide +kernel⟩ ⟨Nat.le_of_ble_eq_true rfl, Nat.le_of_ble_eq_true rfl⟩) g9.1 rfl rfl hl.1 (Nat.le_of_ble_eq_true rfl) dX8_thing_28 ⟨Nat.zero_le _, Nat.zero_le _⟩ rfl (fun H locs hR hS => ?_)
    obtain ⟨Im26, eIm26, hf⟩ := lt_some hf
    obtain ⟨Jm27, eJm27, hf⟩ := lt_some hf
    rw [← eIm26, ← eJm27] at hR
    refine lv_iload_n hx hb dX8_thing_31 rfl (lv_at hl 1 rfl) ?_
    refine lv_iconst (v := 2) hx hb dX8_thing_32 li_2 ?_
    refine lv_icmp_ge (tgt := 42) hx hb dX8_thing_33 (by decide) (fun c28 => ?_) (fun c28 => ?_)
    · have hf := ite_t c28 hf
      refine lv_iload_n hx hb dX8_thing_42 rfl (lv_at hl 1 rfl) ?_
      refine lv_iconst (v := 2) hx hb dX8_thing_43 li_2 ?_
      refine lv_icmp_ne (tgt := 63) hx hb dX8_thing_44 (by decide) (fun c29 => ?_) (fun c29 => ?_)
      · have hf := ite_f c29 hf
        refine lv_aload_n hx hb dX8_thing_63 rfl (lv_at hl 0 rfl) ?_
        refine lv_aload_n hx hb dX8_thing_64 rfl (lv_at hl 0 rfl) ?_
        obtain ⟨v30, ev30, hf⟩ := lt_some hf
        refine n_geti (v := v30) hx hb hts hown hG hR gFi_X8_27_6 k1 ev30.symm dX8_thing_65 ?_
        refine lv_iconst (v := 2) hx hb dX8_thing_68 li_2 ?_
        have hj77 : ∀ (j77_s0 : Int32), w8_thing_j77 G.2.2 (aK G) o K X A B Q n a3 r7 Im26 Jm27 j77_s0 = some out → ∀ (H : Heap) (locs : List Loc) (ls : Array Slot), RS G K Im26 Jm27 X A B Q H → va_S (gA G) s.heap H locs → lv_has ls 3 [(0, .ref o), (1, .int r7)] → W p l e ({ frames := 8, cells := 2, slots := 17, locals := 174 } : Room) s m args below meth c H locs 0 0 Z (F0 m 77 ls [.int j77_s0, .ref o]) := by
          intro j77_s0 hf H locs ls hR hS hl
          unfold w8_thing_j77 at hf
          refine lv_iconst (v := 1) hx hb dX8_thing_77 li_1 ?_
          obtain ⟨a32, ha32, hf⟩ := bind_s hf
          obtain ⟨g33, hf⟩ := gdp_some hf
          obtain ⟨g34, hf⟩ := gdp_some hf
          obtain ⟨g35, hf⟩ := gdp_some hf
          obtain ⟨r31, hr31, hf⟩ := bind_s hf
          refine x0_gou (vx_runU (As := [.int j77_s0, .int (1 : Int32)]) (rest := []) (b := o) ⟨hx, hb, hml, hown, hts⟩ (m6_mustP l G K Im26 Jm27 X A B Q o a32 g9 g33 g34 ha32 g35 j77_s0 (1 : Int32) (Im26 106 (a32 + 2)) (Im26 107 (a32 + 2)) (Im26 602 o) rfl rfl rfl r31 hr31) (va_cwU (x := ⟨"PailRow$PlanReader", "must", "(ZI)V"⟩) (owner := "PailRow$Reader") 2 hts gu_X8_36_6 rfl rfl rfl rfl ⟨by decide +kernel, by decide +kernel, by decide +kernel⟩ ⟨Nat.le_of_ble_eq_true rfl, Nat.le_of_ble_eq_true rfl⟩) (x_preV hG hR hW hS g9.1 rfl) rfl rfl hl.1 rfl (lv_room (Nat.le_of_ble_eq_true rfl)) dX8_thing_78 ⟨Nat.zero_le _, Nat.zero_le _⟩) hS (fun H locs hnv37 hR hS => ?_) (fun v37 H locs hvv37 hR hS => ?_)
          · have hf := tr_n hnv37 hf
            obtain ⟨Im36, eIm36, hf⟩ := lt_some hf
            rw [← eIm36] at hR
            obtain ⟨k39, hf⟩ := gdp_some hf
            obtain ⟨c40, hf⟩ := gdp_some hf
            refine vx_widen c40.1 c40.2 ?_
            obtain rfl := some_i hf
            exact hthr _ rfl _ _ _ _ _ k39 hR hS
          have hf := tr_s hvv37 hf
          obtain ⟨Im36, eIm36, hf⟩ := lt_some hf
          rw [← eIm36] at hR
          refine lv_aload_n hx hb dX8_thing_81 rfl (lv_at hl 0 rfl) ?_
          refine lv_iload_n hx hb dX8_thing_82 rfl (lv_at hl 1 rfl) ?_
          refine lv_iconst (v := 3) hx hb dX8_thing_83 li_3 ?_
          have hj132 : ∀ (j132_s0 : Int32) (j132_I : gI) (j132_J : gJ) (j132_X : gX) (j132_A : gI) (j132_B : gJ) (j132_Q : gX), w8_thing_j132 G.2.2 (aK G) o K n r7 j132_s0 j132_I j132_J j132_X j132_A j132_B j132_Q = some out → ∀ (H : Heap) (locs : List Loc) (ls : Array Slot), RS G K j132_I j132_J j132_X j132_A j132_B j132_Q H → va_S (gA G) s.heap H locs → lv_has ls 3 [(0, .ref o), (1, .int r7)] → W p l e ({ frames := 8, cells := 2, slots := 17, locals := 174 } : Room) s m args below meth c H locs 0 0 Z (F0 m 132 ls [.int j132_s0, .ref o]) := by
            intro j132_s0 j132_I j132_J j132_X j132_A j132_B j132_Q hf H locs ls hR hS hl
            unfold w8_thing_j132 at hf
            refine lv_iconst (v := 2) hx hb dX8_thing_132 li_2 ?_
            obtain ⟨a42, ha42, hf⟩ := bind_s hf
            obtain ⟨g43, hf⟩ := gdp_some hf
            obtain ⟨g44, hf⟩ := gdp_some hf
            obtain ⟨g45, hf⟩ := gdp_some hf
            obtain ⟨g46, hf⟩ := gdp_some hf
            obtain ⟨r41, hr41, hf⟩ := bind_s hf
            refine x0_gou (vx_runU (As := [.int j132_s0, .int (2 : Int32)]) (rest := []) (b := o) ⟨hx, hb, hml, hown, hts⟩ (m6_mustP l G K j132_I j132_J j132_X j132_A j132_B j132_Q o a42 g43 g44 g45 ha42 g46 j132_s0 (2 : Int32) (j132_I 106 (a42 + 2)) (j132_I 107 (a42 + 2)) (j132_I 602 o) rfl rfl rfl r41 hr41) (va_cwU (x := ⟨"PailRow$PlanReader", "must", "(ZI)V"⟩) (owner := "PailRow$Reader") 2 hts gu_X8_36_6 rfl rfl rfl rfl ⟨by decide +kernel, by decide +kernel, by decide +kernel⟩ ⟨Nat.le_of_ble_eq_true rfl, Nat.le_of_ble_eq_true rfl⟩) (x_preV hG hR hW hS g43.1 rfl) rfl rfl hl.1 rfl (lv_room (Nat.le_of_ble_eq_true rfl)) dX8_thing_133 ⟨Nat.zero_le _, Nat.zero_le _⟩) hS (fun H locs hnv48 hR hS => ?_) (fun v48 H locs hvv48 hR hS => ?_)
            · have hf := tr_n hnv48 hf
              obtain ⟨Im47, eIm47, hf⟩ := lt_some hf
              rw [← eIm47] at hR
              obtain ⟨k50, hf⟩ := gdp_some hf
              obtain ⟨c51, hf⟩ := gdp_some hf
              refine vx_widen c51.1 c51.2 ?_
              obtain rfl := some_i hf
              exact hthr _ rfl _ _ _ _ _ k50 hR hS
            have hf := tr_s hvv48 hf
            obtain ⟨Im47, eIm47, hf⟩ := lt_some hf
            rw [← eIm47] at hR
            obtain ⟨c52, hf⟩ := gdp_some hf
            obtain ⟨c53, hf⟩ := gdp_some hf
            refine s_new (n := n) (ci := 13) (T := TX16) (N := 5) hx hb hts in_X16 tyX16 tyX16_ok hown (hts _ q1074) (hts _ q1075) (hts _ q128) hG hR c52 hS (hz k0) rfl (by decide) hdv_13 c53.1 c53.2 dX8_thing_136 (fun H hR hS => ?_)
            obtain ⟨Km54, eKm54, hf⟩ := lt_some hf
            obtain ⟨Im55, eIm55, hf⟩ := lt_some hf
            obtain ⟨Jm56, eJm56, hf⟩ := lt_some hf
            obtain ⟨Xm57, eXm57, hf⟩ := lt_some hf
            rw [← eKm54, ← eIm55, ← eJm56, ← eXm57] at hR
            obtain ⟨n58, en58, hf⟩ := lt_some hf
            obtain ⟨u59, eu59, hf⟩ := lt_some hf
            obtain ⟨v60, ev60, hf⟩ := lt_some hf
            refine W.widen (k := u59) (n := v60) (Nat.le_of_eq eu59.symm) (Nat.le_of_eq ev60.symm) ?_
            refine lv_dup hx hb dX8_thing_139 rfl ?_
            refine lv_aload_n hx hb dX8_thing_140 rfl (lv_at hl 0 rfl) ?_
            obtain ⟨k61, hf⟩ := gdp_some hf
            obtain ⟨v62, ev62, hf⟩ := lt_some hf
            refine n_geti (v := v62) hx hb hts hown hG hR gFi_X8_20_6 k61 ev62.symm dX8_thing_141 ?_
            refine lv_iload_n hx hb dX8_thing_144 rfl (lv_at hl 1 rfl) ?_
            refine lv_aload_n hx hb dX8_thing_145 rfl (lv_at hl 0 rfl) ?_
            obtain ⟨v63, ev63, hf⟩ := lt_some hf
            refine n_geti (v := v63) hx hb hts hown hG hR gFi_X8_88_6 k61 ev63.symm dX8_thing_146 ?_
            refine lv_null hx hb dX8_thing_149 ?_
            refine lv_iconst (v := 0) hx hb dX8_thing_150 li_0 ?_
            obtain ⟨c65, hf⟩ := gdp_some hf
            obtain ⟨r64, hr64, hf⟩ := bind_s hf
            refine x0_gor (vx_runI (As := [.int v62, .int r7, .int v63, va_rf none, .int (0 : Int32)]) (rest := [.ref n]) (b := n) ⟨hx, hb, hml, hown, hts⟩ (m16_init_w l G Km54 Im55 Jm56 Xm57 j132_A j132_B j132_Q n58 n v62 r7 v63 none (0 : Int32) r64 hr64) ⟨callB_of 5 hts (lw_meth q1078) rfl rfl rfl (hts _ q128) (hts _ q1076) (by decide +kernel) ⟨Nat.le_of_ble_eq_true rfl, Nat.le_of_ble_eq_true rfl⟩, rfl, hts _ q1077⟩ (x_preS hG hR hW hS) rfl rfl hl.1 rfl (lv_room (Nat.le_of_ble_eq_true rfl)) dX8_thing_151 ⟨c65.1, c65.2⟩) hS (fun H locs hR hS => ?_)
            refine lv_astore_n (lv' := [(2, .ref n), (0, .ref o), (1, .int r7)]) hx hb dX8_thing_154 rfl hl (by decide) (by first | rfl | simp [va_rf_c]) (fun ls hl => ?_)
            refine lv_aload_n hx hb dX8_thing_155 rfl (lv_at hl 1 rfl) ?_
            obtain ⟨a67, ha67, hf⟩ := bind_s hf
            obtain ⟨g68, hf⟩ := gdp_some hf
            obtain ⟨g69, hf⟩ := gdp_some hf
            obtain ⟨r66, hr66, hf⟩ := bind_s hf
            refine g0_cUv (rm := (3, 65)) (As := []) (rest := []) ⟨hx, hb, hml, hown, hts⟩ hG hR hS (m6_nextP l G r64.1 r64.2.1 r64.2.2.1 r64.2.2.2.1 r64.2.2.2.2.1 r64.2.2.2.2.2.1 r64.2.2.2.2.2.2.1 o a67 g68 g69 ha67 (r64.2.1 2 a67) (r64.2.1 600 o) (r64.2.1 601 o) (r64.2.1 602 o) (r64.2.1 603 o) (r64.2.1 604 o) (r64.2.1 605 o) (r64.2.2.1 606 o) (r64.2.2.2.2.1 (a67 + 1)) rfl rfl rfl rfl rfl rfl rfl rfl rfl r66 hr66) (va_cwU (x := ⟨"PailRow$PlanReader", "next", "()V"⟩) (owner := "PailRow$Reader") 0 hts gu_X8_43_6 rfl rfl rfl rfl ⟨by decide +kernel, by decide +kernel, by decide +kernel⟩ ⟨Nat.le_of_ble_eq_true rfl, Nat.le_of_ble_eq_true rfl⟩) g68.1 rfl rfl hl.1 (Nat.le_of_ble_eq_true rfl) dX8_thing_156 ⟨c65.1, c65.2⟩ rfl (fun H locs hR hS => ?_)
            obtain ⟨Im70, eIm70, hf⟩ := lt_some hf
            obtain ⟨Jm71, eJm71, hf⟩ := lt_some hf
            rw [← eIm70, ← eJm71] at hR
            refine lv_aload_n hx hb dX8_thing_159 rfl (lv_at hl 0 rfl) ?_
            obtain ⟨c72, hf⟩ := gdp_some hf
            refine W.widen c72.1 c72.2 ?_
            obtain rfl := some_i hf
            exact hend _ rfl _ _ _ _ dX8_thing_160 hR hS
          refine lv_icmp_ne (tgt := 107) hx hb dX8_thing_84 (by decide) (fun c73 => ?_) (fun c73 => ?_)
          · have hf := ite_f c73 hf
            refine lv_aload_n hx hb dX8_thing_107 rfl (lv_at hl 0 rfl) ?_
            obtain ⟨v74, ev74, hf⟩ := lt_some hf
            refine n_geti (v := v74) hx hb hts hown hG hR gFi_X8_88_6 k1 ev74.symm dX8_thing_108 ?_
            refine lv_aload_n hx hb dX8_thing_111 rfl (lv_at hl 0 rfl) ?_
            refine g_getx hx hb hts hown hG hR gFx_X8_3_6 k1 dX8_thing_112 ?_
            rw [← ex2]
            try rw [ha3]
            obtain ⟨x75, ex75, hf⟩ := lt_some hf
            refine g_getx hx hb hts hown hG hR gFx_X8_78_0 k4 dX8_thing_115 ?_
            rw [← ex75]
            obtain ⟨a76, ha76, hf⟩ := bind_s hf
            try rw [ha76]
            obtain ⟨k77, hf⟩ := gdp_some hf
            obtain ⟨x78, ex78, hf⟩ := lt_some hf
            refine g_getx hx hb hts hown hG hR gFx_X8_82_2 k77 dX8_thing_118 ?_
            rw [← ex78]
            obtain ⟨a79, ha79, hf⟩ := bind_s hf
            try rw [ha79]
            obtain ⟨k80, hf⟩ := gdp_some hf
            obtain ⟨v81, ev81, hf⟩ := lt_some hf
            refine n_geti (v := v81) hx hb hts hown hG hR gFi_X8_97_3 k80 ev81.symm dX8_thing_121 ?_
            refine lv_icmp_ge (tgt := 131) hx hb dX8_thing_124 (by decide) (fun c82 => ?_) (fun c82 => ?_)
            · have hf := ite_t c82 hf
              refine lv_iconst (v := 0) hx hb dX8_thing_131 li_0 ?_
              exact hj132 (0 : Int32) Im36 Jm27 X A B Q hf _ _ _ hR hS (lv_sub hl [0, 1] rfl)
            · have hf := ite_f c82 hf
              refine lv_iconst (v := 1) hx hb dX8_thing_127 li_1 ?_
              refine lv_goto (tgt := 132) hx hb dX8_thing_128 (by decide) ?_
              exact hj132 (1 : Int32) Im36 Jm27 X A B Q hf _ _ _ hR hS (lv_sub hl [0, 1] rfl)
          · have hf := ite_t c73 hf
            refine lv_aload_n hx hb dX8_thing_87 rfl (lv_at hl 0 rfl) ?_
            refine g_getx hx hb hts hown hG hR gFx_X8_3_6 k1 dX8_thing_88 ?_
            rw [← ex2]
            try rw [ha3]
            obtain ⟨x83, ex83, hf⟩ := lt_some hf
            refine g_getx hx hb hts hown hG hR gFx_X8_78_0 k4 dX8_thing_91 ?_
            rw [← ex83]
            obtain ⟨a84, ha84, hf⟩ := bind_s hf
            try rw [ha84]
            obtain ⟨k85, hf⟩ := gdp_some hf
            obtain ⟨x86, ex86, hf⟩ := lt_some hf
            refine g_getx hx hb hts hown hG hR gFx_X8_82_2 k85 dX8_thing_94 ?_
            rw [← ex86]
            refine lv_aload_n hx hb dX8_thing_97 rfl (lv_at hl 0 rfl) ?_
            obtain ⟨v87, ev87, hf⟩ := lt_some hf
            refine n_geti (v := v87) hx hb hts hown hG hR gFi_X8_88_6 k1 ev87.symm dX8_thing_98 ?_
            obtain ⟨a88, ha88, hf⟩ := bind_s hf
            try rw [ha88]
            obtain ⟨g90, hf⟩ := gdp_some hf
            obtain ⟨r89, hr89, hf⟩ := bind_s hf
            refine g0_cV (rm := (2, 44)) (As := [.int v87]) (rest := [.ref o]) ⟨hx, hb, hml, hown, hts⟩ hG hR hS (m4_isAim l G K Im36 Jm27 X A B Q a88 g90 v87 (Im36 304 a88) (Im36 305 a88) rfl rfl r89 hr89) ⟨callB_of 1 hts (lw_meth q1104) rfl rfl rfl (hts _ q108) (hts _ q1101) (by decide +kernel) ⟨Nat.le_of_ble_eq_true rfl, Nat.le_of_ble_eq_true rfl⟩, hts _ q1102, hts _ q1103⟩ g90.1 rfl rfl hl.1 (Nat.le_of_ble_eq_true rfl) dX8_thing_101 ⟨Nat.zero_le _, Nat.zero_le _⟩ rfl (fun H locs hR hS => ?_)
            refine lv_goto (tgt := 132) hx hb dX8_thing_104 (by decide) ?_
            exact hj132 r89 Im36 Jm27 X A B Q hf _ _ _ hR hS (lv_sub hl [0, 1] rfl)
        refine lv_icmp_ne (tgt := 76) hx hb dX8_thing_69 (by decide) (fun c91 => ?_) (fun c91 => ?_)
        · have hf := ite_f c91 hf
          refine lv_iconst (v := 0) hx hb dX8_thing_76 li_0 ?_
          exact hj77 (0 : Int32) hf _ _ _ hR hS (lv_sub hl [0, 1] rfl)
        · have hf := ite_t c91 hf
          refine lv_iconst (v := 1) hx hb dX8_thing_72 li_1 ?_
          refine lv_goto (tgt := 77) hx hb dX8_thing_73 (by decide) ?_
          exact hj77 (1 : Int32) hf _ _ _ hR hS (lv_sub hl [0, 1] rfl)
      · have hf := ite_t c29 hf
        obtain ⟨c92, hf⟩ := gdp_some hf
        obtain ⟨c93, hf⟩ := gdp_some hf
        refine s_new (n := n) (ci := 13) (T := TX16) (N := 5) hx hb hts in_X16 tyX16 tyX16_ok hown (hts _ q1074) (hts _ q1075) (hts _ q128) hG hR c92 hS (hz k0) rfl (by decide) hdv_13 c93.1 c93.2 dX8_thing_47 (fun H hR hS => ?_)
        obtain ⟨Km94, eKm94, hf⟩ := lt_some hf
        obtain ⟨Im95, eIm95, hf⟩ := lt_some hf
        obtain ⟨Jm96, eJm96, hf⟩ := lt_some hf
        obtain ⟨Xm97, eXm97, hf⟩ := lt_some hf
        rw [← eKm94, ← eIm95, ← eJm96, ← eXm97] at hR
        obtain ⟨n98, en98, hf⟩ := lt_some hf
        obtain ⟨u99, eu99, hf⟩ := lt_some hf
        obtain ⟨v100, ev100, hf⟩ := lt_some hf
        refine W.widen (k := u99) (n := v100) (Nat.le_of_eq eu99.symm) (Nat.le_of_eq ev100.symm) ?_
        refine lv_dup hx hb dX8_thing_50 rfl ?_
        refine lv_aload_n hx hb dX8_thing_51 rfl (lv_at hl 0 rfl) ?_
        obtain ⟨k101, hf⟩ := gdp_some hf
        obtain ⟨v102, ev102, hf⟩ := lt_some hf
        refine n_geti (v := v102) hx hb hts hown hG hR gFi_X8_20_6 k101 ev102.symm dX8_thing_52 ?_
        refine lv_iload_n hx hb dX8_thing_55 rfl (lv_at hl 1 rfl) ?_
        refine lv_iconst (v := 0) hx hb dX8_thing_56 li_0 ?_
        refine lv_null hx hb dX8_thing_57 ?_
        refine lv_iconst (v := 0) hx hb dX8_thing_58 li_0 ?_
        obtain ⟨c104, hf⟩ := gdp_some hf
        obtain ⟨r103, hr103, hf⟩ := bind_s hf
        refine x0_gor (vx_runI (As := [.int v102, .int r7, .int (0 : Int32), va_rf none, .int (0 : Int32)]) (rest := [.ref n]) (b := n) ⟨hx, hb, hml, hown, hts⟩ (m16_init_w l G Km94 Im95 Jm96 Xm97 A B Q n98 n v102 r7 (0 : Int32) none (0 : Int32) r103 hr103) ⟨callB_of 5 hts (lw_meth q1078) rfl rfl rfl (hts _ q128) (hts _ q1076) (by decide +kernel) ⟨Nat.le_of_ble_eq_true rfl, Nat.le_of_ble_eq_true rfl⟩, rfl, hts _ q1077⟩ (x_preS hG hR hW hS) rfl rfl hl.1 rfl (lv_room (Nat.le_of_ble_eq_true rfl)) dX8_thing_59 ⟨c104.1, c104.2⟩) hS (fun H locs hR hS => ?_)
        obtain ⟨c105, hf⟩ := gdp_some hf
        refine W.widen c105.1 c105.2 ?_
        obtain rfl := some_i hf
        exact hend _ rfl _ _ _ _ dX8_thing_62 hR hS
    · have hf := ite_f c28 hf
      refine lv_aload_n hx hb dX8_thing_36 rfl (lv_at hl 0 rfl) ?_
      refine lv_iload_n hx hb dX8_thing_37 rfl (lv_at hl 1 rfl) ?_
      obtain ⟨c107, hf⟩ := gdp_some hf
      obtain ⟨r106, hr106, hf⟩ := bind_s hf
      refine x_gosq (vx_runV (As := [.int r7]) (rest := []) (b := o) ⟨hx, hb, hml, hown, hts⟩ (m8_men_w l G K Im26 Jm27 X A B Q n o r7 r106 hr106) ⟨callB_of 1 hts (lw_meth q1067) rfl rfl rfl (hts _ q112) (hts _ q1064) (by decide +kernel) ⟨Nat.le_of_ble_eq_true rfl, Nat.le_of_ble_eq_true rfl⟩, hts _ q1066, hts _ qs8⟩ (x_preV hG hR hW hS k1 rfl) rfl rfl hl.1 rfl (lv_room (Nat.le_of_ble_eq_true rfl)) dX8_thing_38 ⟨c107.1, c107.2⟩) hS (fun b109 H locs hnv108 hR hS => ?_) (fun v108 H locs hvv108 hR hS => ?_)
      · have hf := trs_l hnv108 hf
        obtain ⟨k110, hf⟩ := gdp_some hf
        obtain ⟨c111, hf⟩ := gdp_some hf
        refine vx_widen c111.1 c111.2 ?_
        obtain rfl := some_i hf
        exact hthr _ rfl _ _ _ _ _ k110 hR hS
      have hf := trs_r hvv108 hf
      obtain ⟨c112, hf⟩ := gdp_some hf
      refine W.widen c112.1 c112.2 ?_
      obtain rfl := some_i hf
      exact hend _ rfl _ _ _ _ dX8_thing_41 hR hS
  refine lv_icmp_eq (tgt := 22) hx hb dX8_thing_15 (by decide) (fun c113 => ?_) (fun c113 => ?_)
  · have hf := ite_t c113 hf
    refine lv_iconst (v := 0) hx hb dX8_thing_22 li_0 ?_
    exact hj23 (0 : Int32) hf _ _ _ hR hS (lv_sub hl [1, 0] rfl)
  · have hf := ite_f c113 hf
    refine lv_iconst (v := 1) hx hb dX8_thing_18 li_1 ?_
    refine lv_goto (tgt := 23) hx hb dX8_thing_19 (by decide) ?_
    exact hj23 (1 : Int32) hf _ _ _ hR hS (lv_sub hl [1, 0] rfl)
