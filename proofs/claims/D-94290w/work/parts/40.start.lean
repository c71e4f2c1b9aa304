/-! the world at the law's entry (printed by tools) -/
set_option maxRecDepth 100000
theorem st_OF {args : Array Value} {s : State} {t : Term} {c n d : String} {v : Value} {a : Nat} {A : Nat → Prop} (ht : t.eval args s none [] s = some (.ref a)) (hv : (Term.field t c n d).eval args s none [] s = some v) (hA : ∀ a : Nat, a < s.heap.size → ¬ A a) : va_OF c n d v a A s s.heap := by
  cases hfo : s.fieldFound? c n d with
  | none =>
    rw [va_fe ht] at hv
    simp [State.fieldOf?, State.fieldNamed?, hfo] at hv
  | some x =>
    obtain ⟨cf, k, fi, f⟩ := x
    obtain ⟨g1, cell, g2, g3, -, -, g6⟩ := Term.field_spec hfo ht hv
    exact ⟨cf, k, fi, f, cell, hfo, g1, g2, g3, g6, hA _ (Array.getElem?_eq_some_iff.mp g2).1⟩
abbrev st_tv (t : Term) : Term := .field t "java/lang/String" "value" "[B"
theorem st_str {args : Array Value} {s : State} {t : Term} {n : Nat} {f : Nat → Int32} {A : Nat → Prop} (hn : n < 2 ^ 31) (h1 : (Cond.exactly t "java/lang/String").before args s = true) (h2 : (Cond.eq (.field t "java/lang/String" "coder" "B") (.int 0)).before args s = true) (h3 : (Cond.arrayOf (st_tv t) .byte).before args s = true) (h4 : (Cond.eq (.length (st_tv t)) (.int (Int32.ofNat n))).before args s = true) (h5 : ∀ j : Nat, j < n → (Cond.eq (.elem (st_tv t) (.int (Int32.ofNat j))) (.int (f j))).before args s = true) (hA : ∀ a : Nat, a < s.heap.size → ¬ A a) :
    ∃ a v : Nat, t.eval args s none [] s = some (.ref a) ∧ va_O "java/lang/String" a A s s.heap ∧ va_OF "java/lang/String" "coder" "B" (.int 0) a A s s.heap ∧ va_OF "java/lang/String" "value" "[B" (.ref v) a A s s.heap ∧ va_T .byte v n (fun j => .int (f j)) A s s.heap := by
  obtain ⟨a, c, cell, k, q1, q2, q3, q4, q5, q6, -⟩ := Cond.exactly_spec h1
  obtain ⟨v, hv, hT⟩ := va_Tof hn h3 (va_eqt h4) (fun j hj => va_eqt (h5 j hj)) hA
  exact ⟨a, v, q1, va_Oof h1 q1 hA, st_OF q1 (va_eqt h2) hA, st_OF q1 hv hA, hT⟩
def kS : List Nat := [22, 24, 26, 28, 30, 32, 34, 36, 38, 40, 46, 48, 50, 52, 57, 59, 61, 63, 65, 70, 72, 74, 76, 78, 80, 82, 84, 86, 88]
abbrev st_t (i : Nat) : Term := .string "PailRow" (kS.getD i 0)
theorem st_w1 : ∀ i : Nat, i < 29 → Cond.exactly (st_t i) "java/lang/String" ∈ flatC (Jvm.Cond.and given_1 narrow_1) := by decide +kernel
theorem st_w2 : ∀ i : Nat, i < 29 → Cond.eq (.field (st_t i) "java/lang/String" "coder" "B") (.int 0) ∈ flatC (Jvm.Cond.and given_1 narrow_1) := by decide +kernel
theorem st_w3 : ∀ i : Nat, i < 29 → Cond.arrayOf (st_tv (st_t i)) .byte ∈ flatC (Jvm.Cond.and given_1 narrow_1) := by decide +kernel
theorem st_w4 : ∀ i : Nat, i < 29 → Cond.eq (.length (st_tv (st_t i))) (.int (Int32.ofNat (lenS i))) ∈ flatC (Jvm.Cond.and given_1 narrow_1) := by decide +kernel
theorem st_w5 : ∀ i : Nat, i < 29 → ∀ j : Nat, j < lenS i → Cond.eq (.elem (st_tv (st_t i)) (.int (Int32.ofNat j))) (.int (bytS i j)) ∈ flatC (Jvm.Cond.and given_1 narrow_1) := by decide +kernel
theorem st_w6 : ∀ i : Nat, i < 29 → lenS i < 2 ^ 31 := by decide +kernel
theorem st_x0 : Cond.eq (.string "PailRow" 80) (.string "PailRow$SentenceReader" 17) ∈ flatC (Jvm.Cond.and given_1 narrow_1) := by decide +kernel
theorem st_x1 : Cond.eq (.string "PailRow" 82) (.string "PailRow$SentenceReader" 19) ∈ flatC (Jvm.Cond.and given_1 narrow_1) := by decide +kernel
theorem st_x2 : Cond.eq (.string "PailRow" 84) (.string "PailRow$SentenceReader" 21) ∈ flatC (Jvm.Cond.and given_1 narrow_1) := by decide +kernel
theorem st_x3 : Cond.eq (.string "PailRow" 86) (.string "PailRow$SentenceReader" 23) ∈ flatC (Jvm.Cond.and given_1 narrow_1) := by decide +kernel
theorem st_x4 : Cond.eq (.string "PailRow" 88) (.string "PailRow$SentenceReader" 25) ∈ flatC (Jvm.Cond.and given_1 narrow_1) := by decide +kernel
theorem st_x5 : Cond.eq (.string "PailRow" 76) (.string "PailRow$SentenceReader" 75) ∈ flatC (Jvm.Cond.and given_1 narrow_1) := by decide +kernel
theorem st_x6 : Cond.eq (.string "PailRow" 78) (.string "PailRow$SentenceReader" 84) ∈ flatC (Jvm.Cond.and given_1 narrow_1) := by decide +kernel
theorem st_x7 : Cond.eq (.string "PailRow" 74) (.string "PailRow$SentenceReader" 70) ∈ flatC (Jvm.Cond.and given_1 narrow_1) := by decide +kernel
theorem st_x8 : Cond.eq (.string "PailRow" 72) (.string "PailRow$SentenceReader" 53) ∈ flatC (Jvm.Cond.and given_1 narrow_1) := by decide +kernel
theorem st_x9 : Cond.eq (.string "PailRow" 70) (.string "PailRow$PlanReader" 30) ∈ flatC (Jvm.Cond.and given_1 narrow_1) := by decide +kernel
theorem st_S {args : Array Value} {s : State} {A : Nat → Prop} (hf : ∀ w ∈ flatC (Jvm.Cond.and given_1 narrow_1), w.before args s = true) (hA : ∀ a : Nat, a < s.heap.size → ¬ A a) : ∃ ad av : Nat → Nat, ∀ i : Nat, i < 29 → (st_t i).eval args s none [] s = some (.ref (ad i)) ∧ va_O "java/lang/String" (ad i) A s s.heap ∧ va_OF "java/lang/String" "coder" "B" (.int 0) (ad i) A s s.heap ∧ va_OF "java/lang/String" "value" "[B" (.ref (av i)) (ad i) A s s.heap ∧ va_T .byte (av i) (lenS i) (fun j => .int (bytS i j)) A s s.heap := by
  have h0 : ∀ i : Nat, ∃ q : Nat × Nat, i < 29 → (st_t i).eval args s none [] s = some (.ref q.1) ∧ va_O "java/lang/String" q.1 A s s.heap ∧ va_OF "java/lang/String" "coder" "B" (.int 0) q.1 A s s.heap ∧ va_OF "java/lang/String" "value" "[B" (.ref q.2) q.1 A s s.heap ∧ va_T .byte q.2 (lenS i) (fun j => .int (bytS i j)) A s s.heap := by
    intro i
    by_cases hi : i < 29
    · obtain ⟨a, v, h⟩ := st_str (st_w6 i hi) (hf _ (st_w1 i hi)) (hf _ (st_w2 i hi)) (hf _ (st_w3 i hi)) (hf _ (st_w4 i hi)) (fun j hj => hf _ (st_w5 i hi j hj)) hA
      exact ⟨(a, v), fun _ => h⟩
    · exact ⟨(0, 0), fun h => absurd h hi⟩
  obtain ⟨q, hq⟩ := Classical.axiomOfChoice h0
  exact ⟨fun i => (q i).1, fun i => (q i).2, hq⟩
theorem st_C {args : Array Value} {s : State} (hts : ∀ w ∈ lw_all, w.before args s = true) : ∃ (D1 : Nat → ClassId) (D2 : Nat → Nat → Nat), ∀ (c : Nat) (q : vw_C), gCl[c]? = some q → u_Kn s q.1 q.2.1 q.2.2 (D1 c) (D2 c) := by
  have h0 : ∀ c : Nat, ∃ d : ClassId × (Nat → Nat), ∀ q : vw_C, gCl[c]? = some q → u_Kn s q.1 q.2.1 q.2.2 d.1 d.2 := by
    intro c
    match c with
    | 0 =>
      obtain ⟨a, b, h⟩ := u_known (C := RX1) (T := TX1) (N := 52) hts in_X1 (hts _ q136)
      exact ⟨(a, b), fun q hq => by cases hq; exact h⟩
    | 1 =>
      obtain ⟨a, b, h⟩ := u_known (C := RX2) (T := TX2) (N := 8) hts in_X2 (hts _ q144)
      exact ⟨(a, b), fun q hq => by cases hq; exact h⟩
    | 2 =>
      obtain ⟨a, b, h⟩ := u_known (C := RX3) (T := TX3) (N := 3) hts in_X3 (hts _ q244)
      exact ⟨(a, b), fun q hq => by cases hq; exact h⟩
    | 3 =>
      obtain ⟨a, b, h⟩ := u_known (C := RX4) (T := TX4) (N := 15) hts in_X4 (hts _ q250)
      exact ⟨(a, b), fun q hq => by cases hq; exact h⟩
    | 4 =>
      obtain ⟨a, b, h⟩ := u_known (C := RX5) (T := TX5) (N := 2) hts in_X5 (hts _ q347)
      exact ⟨(a, b), fun q hq => by cases hq; exact h⟩
    | 5 =>
      obtain ⟨a, b, h⟩ := u_known (C := RX7) (T := TX7) (N := 10) hts in_X7 (hts _ q379)
      exact ⟨(a, b), fun q hq => by cases hq; exact h⟩
    | 6 =>
      obtain ⟨a, b, h⟩ := u_known (C := RX8) (T := TX8) (N := 10) hts in_X8 (hts _ q437)
      exact ⟨(a, b), fun q hq => by cases hq; exact h⟩
    | 7 =>
      obtain ⟨a, b, h⟩ := u_known (C := RX10) (T := TX10) (N := 19) hts in_X10 (hts _ q458)
      exact ⟨(a, b), fun q hq => by cases hq; exact h⟩
    | 8 =>
      obtain ⟨a, b, h⟩ := u_known (C := RX11) (T := TX11) (N := 10) hts in_X11 (hts _ q553)
      exact ⟨(a, b), fun q hq => by cases hq; exact h⟩
    | 9 =>
      obtain ⟨a, b, h⟩ := u_known (C := RX12) (T := TX12) (N := 6) hts in_X12 (hts _ q578)
      exact ⟨(a, b), fun q hq => by cases hq; exact h⟩
    | 10 =>
      obtain ⟨a, b, h⟩ := u_known (C := RX13) (T := TX13) (N := 11) hts in_X13 (hts _ q609)
      exact ⟨(a, b), fun q hq => by cases hq; exact h⟩
    | 11 =>
      obtain ⟨a, b, h⟩ := u_known (C := RX14) (T := TX14) (N := 91) hts in_X14 (hts _ q1611)
      exact ⟨(a, b), fun q hq => by cases hq; exact h⟩
    | 12 =>
      obtain ⟨a, b, h⟩ := u_known (C := RX15) (T := TX15) (N := 4) hts in_X15 (hts _ q978)
      exact ⟨(a, b), fun q hq => by cases hq; exact h⟩
    | 13 =>
      obtain ⟨a, b, h⟩ := u_known (C := RX16) (T := TX16) (N := 5) hts in_X16 (hts _ q1075)
      exact ⟨(a, b), fun q hq => by cases hq; exact h⟩
    | 14 =>
      obtain ⟨a, b, h⟩ := u_known (C := RX18) (T := TX18) (N := 1) hts in_X18 (hts _ q1447)
      exact ⟨(a, b), fun q hq => by cases hq; exact h⟩
    | 15 =>
      obtain ⟨a, b, h⟩ := u_known (C := RX19) (T := TX19) (N := 3) hts in_X19 (hts _ q1467)
      exact ⟨(a, b), fun q hq => by cases hq; exact h⟩
    | 16 =>
      obtain ⟨a, b, h⟩ := u_known (C := RX20) (T := TX20) (N := 0) hts (fun w h => absurd h List.not_mem_nil) (hts _ q1483)
      exact ⟨(a, b), fun q hq => by cases hq; exact h⟩
    | 17 =>
      obtain ⟨a, b, h⟩ := u_known (C := RX21) (T := TX21) (N := 2) hts in_X21 (hts _ q1491)
      exact ⟨(a, b), fun q hq => by cases hq; exact h⟩
    | 18 =>
      obtain ⟨a, b, h⟩ := u_known (C := RX22) (T := TX22) (N := 2) hts in_X22 (hts _ q1505)
      exact ⟨(a, b), fun q hq => by cases hq; exact h⟩
    | 19 =>
      obtain ⟨a, b, h⟩ := u_known (C := RJ7) (T := TJ7) (N := 0) hts (fun w h => absurd h List.not_mem_nil) (hts _ q1574)
      exact ⟨(a, b), fun q hq => by cases hq; exact h⟩
    | n + 20 => exact ⟨(0, fun _ => 0), fun q hq => by cases hq⟩
  obtain ⟨d, hd⟩ := Classical.axiomOfChoice h0
  exact ⟨fun c => (d c).1, fun c => (d c).2, hd⟩
theorem st_aP {s : State} {c comp : Nat} {k : Class} {ty : FieldType} (hk : s.vm.classes[c]? = some k) (hkind : k.kind = .array comp ty) : ArrOfT s c ty := fun n z => ⟨(fun q h => by cases h), k, hk, comp, hkind⟩
theorem st_A {args : Array Value} {s : State} (hts : ∀ w ∈ lw_tbl, w.before args s = true) : ∃ cA : Nat → ClassId, ∀ (k : Nat) (q : ClassId × FieldType), (gtys cA)[k]? = some q → ArrOfT s q.1 q.2 ∧ va_RA s q.1 q.2 := by
  have h0 : ∃ c : ClassId, ArrOfT s c .int ∧ va_RA s c .int := by
    obtain ⟨c, k, comp, h1, h2, h3⟩ := Cond.arrayClass_spec (hts _ (lw_all_tbl q344))
    exact ⟨c, st_aP h2 h3, h1⟩
  have h1 : ∃ c : ClassId, ArrOfT s c .boolean ∧ va_RA s c .boolean := by
    obtain ⟨c, k, comp, h1, h2, h3⟩ := Cond.arrayClass_spec (hts _ (lw_all_tbl q345))
    exact ⟨c, st_aP h2 h3, h1⟩
  have h2 : ∃ c : ClassId, ArrOfT s c .byte ∧ va_RA s c .byte := by
    obtain ⟨c, k, comp, h1, h2, h3⟩ := Cond.arrayClass_spec (hts _ (lw_all_tbl q211))
    exact ⟨c, st_aP h2 h3, h1⟩
  have h3 : ∃ c : ClassId, ArrOfT s c .long ∧ va_RA s c .long := by
    obtain ⟨c, k, comp, h1, h2, h3⟩ := Cond.arrayClass_spec (hts _ (lw_all_tbl q1890))
    exact ⟨c, st_aP h2 h3, h1⟩
  have h4 : ∃ c : ClassId, ArrOfT s c (.object "PailRow$Man") ∧ va_RA s c (.object "PailRow$Man") := by
    obtain ⟨comp, c, k, h1, -, h2, h3, h4⟩ := Cond.arrayOver_spec (hts _ q256)
    exact ⟨c, st_aP h2 h3, k, comp, h2, h3, h1, h4⟩
  have h5 : ∃ c : ClassId, ArrOfT s c (.object "PailRow$Thing") ∧ va_RA s c (.object "PailRow$Thing") := by
    obtain ⟨comp, c, k, h1, -, h2, h3, h4⟩ := Cond.arrayOver_spec (hts _ q353)
    exact ⟨c, st_aP h2 h3, k, comp, h2, h3, h1, h4⟩
  have h6 : ∃ c : ClassId, ArrOfT s c (.object "PailRow$Barn") ∧ va_RA s c (.object "PailRow$Barn") := by
    obtain ⟨comp, c, k, h1, -, h2, h3, h4⟩ := Cond.arrayOver_spec (hts _ q607)
    exact ⟨c, st_aP h2 h3, k, comp, h2, h3, h1, h4⟩
  have h7 : ∃ c : ClassId, ArrOfT s c (.object "PailRow$State") ∧ va_RA s c (.object "PailRow$State") := by
    obtain ⟨comp, c, k, h1, -, h2, h3, h4⟩ := Cond.arrayOver_spec (hts _ q639)
    exact ⟨c, st_aP h2 h3, k, comp, h2, h3, h1, h4⟩
  have h8 : ∃ c : ClassId, ArrOfT s c (.object "java/lang/String") ∧ va_RA s c (.object "java/lang/String") := by
    obtain ⟨comp, c, k, h1, -, h2, h3, h4⟩ := Cond.arrayOver_spec (hts _ q213)
    exact ⟨c, st_aP h2 h3, k, comp, h2, h3, h1, h4⟩
  have h9 : ∃ c : ClassId, ArrOfT s c (.array .int) ∧ va_RA s c (.array .int) := by
    obtain ⟨comp, c, k, h1, h2, h3, h4⟩ := Cond.arrayOver_specA (hts _ q467)
    exact ⟨c, st_aP h2 h3, h4⟩
  obtain ⟨c0, h0⟩ := h0
  obtain ⟨c1, h1⟩ := h1
  obtain ⟨c2, h2⟩ := h2
  obtain ⟨c3, h3⟩ := h3
  obtain ⟨c4, h4⟩ := h4
  obtain ⟨c5, h5⟩ := h5
  obtain ⟨c6, h6⟩ := h6
  obtain ⟨c7, h7⟩ := h7
  obtain ⟨c8, h8⟩ := h8
  obtain ⟨c9, h9⟩ := h9
  refine ⟨fun k => match k with
    | 0 => c0
    | 1 => c1
    | 2 => c2
    | 3 => c3
    | 4 => c4
    | 5 => c5
    | 6 => c6
    | 7 => c7
    | 8 => c8
    | 9 => c9
    | _ => 0, fun k q hq => ?_⟩
  match k, hq with
  | 0, hq => cases hq; exact h0
  | 1, hq => cases hq; exact h1
  | 2, hq => cases hq; exact h2
  | 3, hq => cases hq; exact h3
  | 4, hq => cases hq; exact h4
  | 5, hq => cases hq; exact h5
  | 6, hq => cases hq; exact h6
  | 7, hq => cases hq; exact h7
  | 8, hq => cases hq; exact h8
  | 9, hq => cases hq; exact h9
  | k + 10, hq => cases hq
theorem st_G {b : Nat} {s : State} (ht : ∀ w ∈ lw_tbl, w.before #[Value.ref b] s = true) (hg : (Jvm.Cond.and given_1 narrow_1).before #[Value.ref b] s = true) : ∃ G : gG, G.2.2 = s.heap.size ∧ GC G s ∧ SW G s s.heap := by
  have hts : ∀ w ∈ lw_all, w.before #[Value.ref b] s = true := fun w h => ht w (lw_all_tbl h)
  have hf : ∀ w ∈ flatC (Jvm.Cond.and given_1 narrow_1), w.before #[Value.ref b] s = true := flat_of_before _ hg
  have hA : ∀ a : Nat, a < s.heap.size → ¬ (s.heap.size ≤ a) := fun a h1 h2 => Nat.not_lt.mpr h2 h1
  obtain ⟨D1, D2, hC⟩ := st_C hts
  obtain ⟨cA, hcA⟩ := st_A ht
  obtain ⟨ad, av, hS⟩ := st_S hf hA
  refine ⟨((D1, D2), (fun t => if t < 100 then cA t else if t < 200 then ad (t - 100) else av (t - 200)), s.heap.size), rfl, ⟨⟨hC, fun k q hq => hcA k q (by rw [← hq]; rfl)⟩, fun w hw hk => ?_⟩, ?_, ?_, ?_, ?_, ?_, ?_⟩
  · have h1 := ht w hw
    cases w
    case arrayOver ty => exact h1
    all_goals first | exact va_Nw.of rfl h1 | (simp [nwk] at hk)
  · intro e he
    simp only [gS, List.mem_cons, List.not_mem_nil, or_false] at he
    have ha : ∀ i : Nat, i < 29 → aK (((D1, D2), (fun t => if t < 100 then cA t else if t < 200 then ad (t - 100) else av (t - 200)), s.heap.size) : gG) i = ad i := fun i hi => by
      show (if 100 + i < 100 then cA (100 + i) else if 100 + i < 200 then ad (100 + i - 100) else av (100 + i - 200)) = ad i
      rw [if_neg (by omega), if_pos (by omega), Nat.add_sub_cancel_left]
    rcases he with rfl | rfl | rfl | rfl | rfl | rfl | rfl | rfl | rfl | rfl | rfl | rfl | rfl | rfl | rfl | rfl | rfl | rfl | rfl | rfl | rfl | rfl | rfl | rfl | rfl | rfl | rfl | rfl | rfl | rfl | rfl | rfl | rfl | rfl | rfl | rfl | rfl | rfl | rfl
    · refine vk_R.of (A := #[Value.ref b]) (ht _ q214) ?_
      show (Term.string "PailRow" 22).eval _ _ _ _ _ = some (.ref (aK _ 0))
      rw [ha 0 (by decide)]
      exact (hS 0 (by decide)).1
    · refine vk_R.of (A := #[Value.ref b]) (ht _ q215) ?_
      show (Term.string "PailRow" 24).eval _ _ _ _ _ = some (.ref (aK _ 1))
      rw [ha 1 (by decide)]
      exact (hS 1 (by decide)).1
    · refine vk_R.of (A := #[Value.ref b]) (ht _ q216) ?_
      show (Term.string "PailRow" 26).eval _ _ _ _ _ = some (.ref (aK _ 2))
      rw [ha 2 (by decide)]
      exact (hS 2 (by decide)).1
    · refine vk_R.of (A := #[Value.ref b]) (ht _ q217) ?_
      show (Term.string "PailRow" 28).eval _ _ _ _ _ = some (.ref (aK _ 3))
      rw [ha 3 (by decide)]
      exact (hS 3 (by decide)).1
    · refine vk_R.of (A := #[Value.ref b]) (ht _ q218) ?_
      show (Term.string "PailRow" 30).eval _ _ _ _ _ = some (.ref (aK _ 4))
      rw [ha 4 (by decide)]
      exact (hS 4 (by decide)).1
    · refine vk_R.of (A := #[Value.ref b]) (ht _ q219) ?_
      show (Term.string "PailRow" 32).eval _ _ _ _ _ = some (.ref (aK _ 5))
      rw [ha 5 (by decide)]
      exact (hS 5 (by decide)).1
    · refine vk_R.of (A := #[Value.ref b]) (ht _ q220) ?_
      show (Term.string "PailRow" 34).eval _ _ _ _ _ = some (.ref (aK _ 6))
      rw [ha 6 (by decide)]
      exact (hS 6 (by decide)).1
    · refine vk_R.of (A := #[Value.ref b]) (ht _ q221) ?_
      show (Term.string "PailRow" 36).eval _ _ _ _ _ = some (.ref (aK _ 7))
      rw [ha 7 (by decide)]
      exact (hS 7 (by decide)).1
    · refine vk_R.of (A := #[Value.ref b]) (ht _ q222) ?_
      show (Term.string "PailRow" 38).eval _ _ _ _ _ = some (.ref (aK _ 8))
      rw [ha 8 (by decide)]
      exact (hS 8 (by decide)).1
    · refine vk_R.of (A := #[Value.ref b]) (ht _ q223) ?_
      show (Term.string "PailRow" 40).eval _ _ _ _ _ = some (.ref (aK _ 9))
      rw [ha 9 (by decide)]
      exact (hS 9 (by decide)).1
    · refine vk_R.of (A := #[Value.ref b]) (ht _ q224) ?_
      show (Term.string "PailRow" 46).eval _ _ _ _ _ = some (.ref (aK _ 10))
      rw [ha 10 (by decide)]
      exact (hS 10 (by decide)).1
    · refine vk_R.of (A := #[Value.ref b]) (ht _ q225) ?_
      show (Term.string "PailRow" 48).eval _ _ _ _ _ = some (.ref (aK _ 11))
      rw [ha 11 (by decide)]
      exact (hS 11 (by decide)).1
    · refine vk_R.of (A := #[Value.ref b]) (ht _ q226) ?_
      show (Term.string "PailRow" 50).eval _ _ _ _ _ = some (.ref (aK _ 12))
      rw [ha 12 (by decide)]
      exact (hS 12 (by decide)).1
    · refine vk_R.of (A := #[Value.ref b]) (ht _ q227) ?_
      show (Term.string "PailRow" 52).eval _ _ _ _ _ = some (.ref (aK _ 13))
      rw [ha 13 (by decide)]
      exact (hS 13 (by decide)).1
    · refine vk_R.of (A := #[Value.ref b]) (ht _ q228) ?_
      show (Term.string "PailRow" 57).eval _ _ _ _ _ = some (.ref (aK _ 14))
      rw [ha 14 (by decide)]
      exact (hS 14 (by decide)).1
    · refine vk_R.of (A := #[Value.ref b]) (ht _ q229) ?_
      show (Term.string "PailRow" 59).eval _ _ _ _ _ = some (.ref (aK _ 15))
      rw [ha 15 (by decide)]
      exact (hS 15 (by decide)).1
    · refine vk_R.of (A := #[Value.ref b]) (ht _ q230) ?_
      show (Term.string "PailRow" 61).eval _ _ _ _ _ = some (.ref (aK _ 16))
      rw [ha 16 (by decide)]
      exact (hS 16 (by decide)).1
    · refine vk_R.of (A := #[Value.ref b]) (ht _ q231) ?_
      show (Term.string "PailRow" 63).eval _ _ _ _ _ = some (.ref (aK _ 17))
      rw [ha 17 (by decide)]
      exact (hS 17 (by decide)).1
    · refine vk_R.of (A := #[Value.ref b]) (ht _ q232) ?_
      show (Term.string "PailRow" 65).eval _ _ _ _ _ = some (.ref (aK _ 18))
      rw [ha 18 (by decide)]
      exact (hS 18 (by decide)).1
    · refine vk_R.of (A := #[Value.ref b]) (ht _ q233) ?_
      show (Term.string "PailRow" 70).eval _ _ _ _ _ = some (.ref (aK _ 19))
      rw [ha 19 (by decide)]
      exact (hS 19 (by decide)).1
    · refine vk_R.of (A := #[Value.ref b]) (ht _ q234) ?_
      show (Term.string "PailRow" 72).eval _ _ _ _ _ = some (.ref (aK _ 20))
      rw [ha 20 (by decide)]
      exact (hS 20 (by decide)).1
    · refine vk_R.of (A := #[Value.ref b]) (ht _ q235) ?_
      show (Term.string "PailRow" 74).eval _ _ _ _ _ = some (.ref (aK _ 21))
      rw [ha 21 (by decide)]
      exact (hS 21 (by decide)).1
    · refine vk_R.of (A := #[Value.ref b]) (ht _ q236) ?_
      show (Term.string "PailRow" 76).eval _ _ _ _ _ = some (.ref (aK _ 22))
      rw [ha 22 (by decide)]
      exact (hS 22 (by decide)).1
    · refine vk_R.of (A := #[Value.ref b]) (ht _ q237) ?_
      show (Term.string "PailRow" 78).eval _ _ _ _ _ = some (.ref (aK _ 23))
      rw [ha 23 (by decide)]
      exact (hS 23 (by decide)).1
    · refine vk_R.of (A := #[Value.ref b]) (ht _ q238) ?_
      show (Term.string "PailRow" 80).eval _ _ _ _ _ = some (.ref (aK _ 24))
      rw [ha 24 (by decide)]
      exact (hS 24 (by decide)).1
    · refine vk_R.of (A := #[Value.ref b]) (ht _ q239) ?_
      show (Term.string "PailRow" 82).eval _ _ _ _ _ = some (.ref (aK _ 25))
      rw [ha 25 (by decide)]
      exact (hS 25 (by decide)).1
    · refine vk_R.of (A := #[Value.ref b]) (ht _ q240) ?_
      show (Term.string "PailRow" 84).eval _ _ _ _ _ = some (.ref (aK _ 26))
      rw [ha 26 (by decide)]
      exact (hS 26 (by decide)).1
    · refine vk_R.of (A := #[Value.ref b]) (ht _ q241) ?_
      show (Term.string "PailRow" 86).eval _ _ _ _ _ = some (.ref (aK _ 27))
      rw [ha 27 (by decide)]
      exact (hS 27 (by decide)).1
    · refine vk_R.of (A := #[Value.ref b]) (ht _ q242) ?_
      show (Term.string "PailRow" 88).eval _ _ _ _ _ = some (.ref (aK _ 28))
      rw [ha 28 (by decide)]
      exact (hS 28 (by decide)).1
    · refine vk_R.of (A := #[Value.ref b]) (ht _ q615) ?_
      show (Term.string "PailRow$SentenceReader" 17).eval _ _ _ _ _ = some (.ref (aK _ 24))
      rw [ha 24 (by decide)]
      exact va_eqR (hf _ st_x0) (hS 24 (by decide)).1
    · refine vk_R.of (A := #[Value.ref b]) (ht _ q616) ?_
      show (Term.string "PailRow$SentenceReader" 19).eval _ _ _ _ _ = some (.ref (aK _ 25))
      rw [ha 25 (by decide)]
      exact va_eqR (hf _ st_x1) (hS 25 (by decide)).1
    · refine vk_R.of (A := #[Value.ref b]) (ht _ q617) ?_
      show (Term.string "PailRow$SentenceReader" 21).eval _ _ _ _ _ = some (.ref (aK _ 26))
      rw [ha 26 (by decide)]
      exact va_eqR (hf _ st_x2) (hS 26 (by decide)).1
    · refine vk_R.of (A := #[Value.ref b]) (ht _ q618) ?_
      show (Term.string "PailRow$SentenceReader" 23).eval _ _ _ _ _ = some (.ref (aK _ 27))
      rw [ha 27 (by decide)]
      exact va_eqR (hf _ st_x3) (hS 27 (by decide)).1
    · refine vk_R.of (A := #[Value.ref b]) (ht _ q619) ?_
      show (Term.string "PailRow$SentenceReader" 25).eval _ _ _ _ _ = some (.ref (aK _ 28))
      rw [ha 28 (by decide)]
      exact va_eqR (hf _ st_x4) (hS 28 (by decide)).1
    · refine vk_R.of (A := #[Value.ref b]) (ht _ q1428) ?_
      show (Term.string "PailRow$SentenceReader" 75).eval _ _ _ _ _ = some (.ref (aK _ 22))
      rw [ha 22 (by decide)]
      exact va_eqR (hf _ st_x5) (hS 22 (by decide)).1
    · refine vk_R.of (A := #[Value.ref b]) (ht _ q1439) ?_
      show (Term.string "PailRow$SentenceReader" 84).eval _ _ _ _ _ = some (.ref (aK _ 23))
      rw [ha 23 (by decide)]
      exact va_eqR (hf _ st_x6) (hS 23 (by decide)).1
    · refine vk_R.of (A := #[Value.ref b]) (ht _ q1489) ?_
      show (Term.string "PailRow$SentenceReader" 70).eval _ _ _ _ _ = some (.ref (aK _ 21))
      rw [ha 21 (by decide)]
      exact va_eqR (hf _ st_x7) (hS 21 (by decide)).1
    · refine vk_R.of (A := #[Value.ref b]) (ht _ q1503) ?_
      show (Term.string "PailRow$SentenceReader" 53).eval _ _ _ _ _ = some (.ref (aK _ 20))
      rw [ha 20 (by decide)]
      exact va_eqR (hf _ st_x8) (hS 20 (by decide)).1
    · refine vk_R.of (A := #[Value.ref b]) (ht _ q1043) ?_
      show (Term.string "PailRow$PlanReader" 30).eval _ _ _ _ _ = some (.ref (aK _ 19))
      rw [ha 19 (by decide)]
      exact va_eqR (hf _ st_x9) (hS 19 (by decide)).1
  · intro i hi
    have e1 : aK (((D1, D2), (fun t => if t < 100 then cA t else if t < 200 then ad (t - 100) else av (t - 200)), s.heap.size) : gG) i = ad i := by
      show (if 100 + i < 100 then cA (100 + i) else if 100 + i < 200 then ad (100 + i - 100) else av (100 + i - 200)) = ad i
      rw [if_neg (by omega), if_pos (by omega), Nat.add_sub_cancel_left]
    have e2 : aV (((D1, D2), (fun t => if t < 100 then cA t else if t < 200 then ad (t - 100) else av (t - 200)), s.heap.size) : gG) i = av i := by
      show (if 200 + i < 100 then cA (200 + i) else if 200 + i < 200 then ad (200 + i - 100) else av (200 + i - 200)) = av i
      rw [if_neg (by omega), if_neg (by omega), Nat.add_sub_cancel_left]
    rw [e1, e2]
    exact (hS i hi).2
  · exact va_Zof (ht _ q893) (ht _ (lw_all_tbl q119)) (va_eqt (hf _ (show Cond.eq (.static "java/lang/String" "COMPACT_STRINGS" "Z") (.int 1) ∈ _ by decide +kernel))) hA
  · exact va_Zqof (ht _ q909) (ht _ (lw_all_tbl q121)) (hf _ (show Cond.isRef (.static "jdk/internal/util/Preconditions" "SIOOBE_FORMATTER" "Ljava/util/function/BiFunction;") ∈ _ by decide +kernel)) hA
  · exact vx_Zqof (ht _ q168) (ht _ (lw_all_tbl q104)) (hf _ (show Cond.isRef (.static Bundle.tN "UNASSIGNED_STACK" Bundle.steD) ∈ _ by decide +kernel)) hA
  · exact vx_Zqof (ht _ q170) (ht _ (lw_all_tbl q104)) (hf _ (show Cond.isRef (.static Bundle.tN "SUPPRESSED_SENTINEL" Bundle.listD) ∈ _ by decide +kernel)) hA
theorem st_R {G : gG} {H : Heap} (hz : G.2.2 = H.size) : RS G (fun _ => none) (fun _ _ => 0) (fun _ _ => 0) (fun _ _ => none) (fun _ _ => 0) (fun _ _ => 0) (fun _ _ => none) H := fun a => ⟨trivial, fun h => absurd rfl h, fun h1 h2 => absurd h2 (Nat.not_lt.mpr (hz ▸ h1))⟩
theorem st_F (z : Nat) : freshz z (fun _ => none) z := ⟨Nat.le_refl _, fun _ _ => rfl, fun a h1 h2 => absurd h1 (Nat.not_le.mpr h2)⟩
