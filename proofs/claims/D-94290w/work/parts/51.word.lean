/-! the plain law: the words that both sides know -/
set_option maxRecDepth 100000
theorem e27_inj {b b' : Nat → Nat} {a a' : Nat} : ∀ (j j' : Nat), (∀ i, i < j → isL (b (a + i))) → (∀ i, i < j' → isL (b' (a' + i))) → e27 b a j = e27 b' a' j' → j = j' ∧ ∀ i, i < j → b (a + i) = b' (a' + i)
  | 0, 0, _, _, _ => ⟨rfl, fun i h => absurd h (Nat.not_lt_zero _)⟩
  | 0, j' + 1, _, h', e => by
    have h1 := h' j' (by omega)
    have e2 : 0 = e27 b' a' j' * 27 + (b' (a' + j') - 96) := e
    unfold isL at h1
    omega
  | j + 1, 0, h, _, e => by
    have h1 := h j (by omega)
    have e2 : e27 b a j * 27 + (b (a + j) - 96) = 0 := e
    unfold isL at h1
    omega
  | j + 1, j' + 1, h, h', e => by
    have h1 := h j (by omega)
    have h2 := h' j' (by omega)
    have e2 : e27 b a j * 27 + (b (a + j) - 96) = e27 b' a' j' * 27 + (b' (a' + j') - 96) := e
    unfold isL at h1 h2
    obtain ⟨g1, g2⟩ := e27_inj j j' (fun i hi => h i (by omega)) (fun i hi => h' i (by omega)) (by omega)
    subst g1
    refine ⟨rfl, fun i hi => ?_⟩
    by_cases q : i = j
    · subst q
      omega
    · exact g2 i (by omega)
theorem e256_inj {b b' : Nat → Nat} {a a' : Nat} : ∀ (j j' : Nat), (∀ i, i < j → isL (b (a + i))) → (∀ i, i < j' → isL (b' (a' + i))) → e256 b a j = e256 b' a' j' → j = j' ∧ ∀ i, i < j → b (a + i) = b' (a' + i)
  | 0, 0, _, _, _ => ⟨rfl, fun i h => absurd h (Nat.not_lt_zero _)⟩
  | 0, j' + 1, _, h', e => by
    have h1 := h' j' (by omega)
    have e2 : 0 = e256 b' a' j' * 256 + b' (a' + j') := e
    unfold isL at h1
    omega
  | j + 1, 0, h, _, e => by
    have h1 := h j (by omega)
    have e2 : e256 b a j * 256 + b (a + j) = 0 := e
    unfold isL at h1
    omega
  | j + 1, j' + 1, h, h', e => by
    have h1 := h j (by omega)
    have h2 := h' j' (by omega)
    have e2 : e256 b a j * 256 + b (a + j) = e256 b' a' j' * 256 + b' (a' + j') := e
    unfold isL at h1 h2
    obtain ⟨g1, g2⟩ := e256_inj j j' (fun i hi => h i (by omega)) (fun i hi => h' i (by omega)) (by omega)
    subst g1
    refine ⟨rfl, fun i hi => ?_⟩
    by_cases q : i = j
    · subst q
      omega
    · exact g2 i (by omega)
theorem e27_eq {b b' : Nat → Nat} {a a' : Nat} : ∀ (j : Nat), (∀ i, i < j → b (a + i) = b' (a' + i)) → e27 b a j = e27 b' a' j
  | 0, _ => rfl
  | j + 1, h => by
    show e27 b a j * 27 + (b (a + j) - 96) = e27 b' a' j * 27 + (b' (a' + j) - 96)
    rw [e27_eq j (fun i hi => h i (by omega)), h j (by omega)]
theorem e256_eq {b b' : Nat → Nat} {a a' : Nat} : ∀ (j : Nat), (∀ i, i < j → b (a + i) = b' (a' + i)) → e256 b a j = e256 b' a' j
  | 0, _ => rfl
  | j + 1, h => by
    show e256 b a j * 256 + b (a + j) = e256 b' a' j * 256 + b' (a' + j)
    rw [e256_eq j (fun i hi => h i (by omega)), h j (by omega)]
theorem p27 {j : Nat} (h : j ≤ 6) : 27 ^ j ≤ 27 ^ 6 := Nat.pow_le_pow_right (by decide) h
theorem e256_lt6 {b : Nat → Nat} {a : Nat} : ∀ j, (∀ i, i < j → isL (b (a + i))) → e256 b a j < 256 ^ j
  | 0, _ => Nat.one_pos
  | j + 1, h => by
    have := e256_lt6 (b := b) (a := a) j (fun i hi => h i (by omega))
    have h2 := (h j (by omega)).2
    show e256 b a j * 256 + b (a + j) < 256 ^ (j + 1)
    rw [Nat.pow_succ]
    omega
theorem p256 {j : Nat} (h : j ≤ 6) : 256 ^ j ≤ 256 ^ 6 := Nat.pow_le_pow_right (by decide) h
/-- a name, on both sides -/
def NameR (nm wd : Int64) : Prop := ∃ (b : Nat → Nat) (a j : Nat), j ≤ 6 ∧ (∀ i, i < j → isL (b (a + i))) ∧ nm = lN (e256 b a j) ∧ wd = lN (e27 b a j)
theorem NameR.iff {nm wd nm' wd' : Int64} (h : NameR nm wd) (h' : NameR nm' wd') : nm = nm' ↔ wd = wd' := by
  obtain ⟨b, a, j, hj, hl, rfl, rfl⟩ := h
  obtain ⟨b', a', j', hj', hl', rfl, rfl⟩ := h'
  have l1 := e256_lt6 j hl
  have l2 := e256_lt6 j' hl'
  have l3 := e27_lt j hl
  have l4 := e27_lt j' hl'
  have p1 := p256 hj
  have p2 := p256 hj'
  have p3 := p27 hj
  have p4 := p27 hj'
  have c1 : (256 : Nat) ^ 6 < 2 ^ 63 := by decide
  have c2 : (27 : Nat) ^ 6 < 2 ^ 63 := by decide
  rw [pk_lEQ (by omega) (by omega), pk_lEQ (by omega) (by omega)]
  constructor
  · intro e
    obtain ⟨g1, g2⟩ := e256_inj j j' hl hl' e
    subst g1
    exact e27_eq j g2
  · intro e
    obtain ⟨g1, g2⟩ := e27_inj j j' hl hl' e
    subst g1
    exact e256_eq j g2
theorem cmp_0 (x y : Int64) : lg_cmp x y = 0 ↔ x = y := by
  unfold lg_cmp
  constructor
  · intro h
    split at h
    · exact absurd h (by decide)
    · split at h
      · assumption
      · exact absurd h (by decide)
  · rintro rfl
    rw [if_neg (fun h => Int64.lt_irrefl h), if_pos rfl]
/-! the constants: cb i k is the k-th letter of the i-th, wm i the model's number for it -/
def cb (i k : Nat) : Nat := (bytS i k).toNatClampNeg
def wm (i : Nat) : Nat := [0, 3, 4, 5, 6, 7, 8, 9, 1, 2, 10, 11, 12, 13, 15, 16, 17, 18, 19, 14, 20, 21, 22, 23, 24, 25, 26, 27, 28].getD i 0
theorem cb_all : ∀ i : Fin 29, lenS i.val ≤ 6 ∧ 1 ≤ lenS i.val ∧ (∀ k : Fin 6, k.val < lenS i.val → 97 ≤ cb i.val k.val ∧ cb i.val k.val ≤ 122 ∧ bytS i.val k.val = nI (cb i.val k.val)) ∧ f14_wordOf (nI (wm i.val)) = some (lN (e27 (cb i.val) 0 (lenS i.val))) := by decide +kernel
theorem cb_is {i : Nat} (hi : i < 29) : lenS i ≤ 6 ∧ 1 ≤ lenS i ∧ (∀ k, k < lenS i → isL (cb i (0 + k)) ∧ bytS i k = nI (cb i k)) ∧ f14_wordOf (nI (wm i)) = some (lN (e27 (cb i) 0 (lenS i))) := by
  obtain ⟨h1, h2, h3, h4⟩ := cb_all ⟨i, hi⟩
  refine ⟨h1, h2, fun k hk => ?_, h4⟩
  obtain ⟨g1, g2, g3⟩ := h3 ⟨k, by dsimp only at h1; omega⟩ hk
  rw [Nat.zero_add]
  exact ⟨⟨g1, g2⟩, g3⟩
theorem cb_inj : ∀ i j : Fin 29, e27 (cb i.val) 0 (lenS i.val) = e27 (cb j.val) 0 (lenS j.val) → i = j := by decide +kernel
/-- the token's letters are the i-th constant -/
def Mt (b : Nat → Nat) (a j i : Nat) : Prop := j = lenS i ∧ ∀ k, k < j → b (a + k) = cb i k
theorem Mt_e27 {b : Nat → Nat} {a j i : Nat} (hi : i < 29) (hl : ∀ k, k < j → isL (b (a + k))) : Mt b a j i ↔ e27 b a j = e27 (cb i) 0 (lenS i) := by
  obtain ⟨-, -, h3, -⟩ := cb_is hi
  constructor
  · rintro ⟨rfl, h⟩
    exact e27_eq _ (fun k hk => by rw [Nat.zero_add]; exact h k hk)
  · intro e
    obtain ⟨g1, g2⟩ := e27_inj j (lenS i) hl (fun k hk => (h3 k hk).1) e
    exact ⟨g1, fun k hk => by have := g2 k hk; rw [Nat.zero_add] at this; exact this⟩
theorem Mt_one {b : Nat → Nat} {a j i i' : Nat} (hi : i < 29) (hi' : i' < 29) (h : Mt b a j i) (h' : Mt b a j i') : i = i' := by
  obtain ⟨rfl, h2⟩ := h
  obtain ⟨e, h2'⟩ := h'
  have := cb_inj ⟨i, hi⟩ ⟨i', hi'⟩ (by
    dsimp only
    rw [← e]
    exact e27_eq _ (fun k hk => by rw [Nat.zero_add, ← h2 k hk, ← h2' k hk]))
  exact congrArg Fin.val this
/-- is a word, PailRow's side -/
theorem isY_word {a j i : Nat} {b : Nat → Nat} {t1 t14 : Nat → Int32} (h : TP b t1 t14) (haj : a + j ≤ 740) (hi : i < 29) (hj : j ≤ 8) : (f6_isY i (nI a) 1 (nI j) t1 = some 1 ∧ Mt b a j i) ∨ (f6_isY i (nI a) 1 (nI j) t1 = some 0 ∧ ¬ Mt b a j i) := by
  obtain ⟨h1, h2, h3, -⟩ := cb_is hi
  unfold f6_isY
  rw [if_pos rfl]
  by_cases q : j = lenS i
  · rw [if_pos (show nI j = Int32.ofNat (lenS i) by rw [q]; rfl)]
    have hk : Ok ((whl (fun (s3 : Int32) => f6_isY_s3 i (nI a) (nI j) t1 s3) FU (0 : Int32)).bind fun rl3 => f6_isY_e3_0 rl3) (fun x => (x = 1 ∧ Mt b a j i) ∨ (x = 0 ∧ ¬ Mt b a j i)) := by
      refine ok_b (Q := fun x => (x = 1 ∧ Mt b a j i) ∨ (x = 0 ∧ ¬ Mt b a j i)) ?_ (fun x hx => ok_i hx)
      refine ok_fu (fun m s => ∃ k : Nat, k + m = j ∧ s = nI k ∧ ∀ q, q < k → b (a + q) = cb i q) (k := j) (by omega) ⟨0, by omega, rfl, fun q hq => absurd hq (Nat.not_lt_zero _)⟩ ?_
      rintro m s ⟨k, hk, rfl, hall⟩
      unfold f6_isY_s3
      by_cases hjk : j ≤ k
      · rw [if_pos (nI_le hjk (by omega))]
        exact ok_i (Or.inl ⟨rfl, q, fun r hr => hall r (by omega)⟩)
      · obtain ⟨hb, ht14, ht1⟩ := h (a + k) (by omega)
        obtain ⟨hc, hby⟩ := h3 k (by omega)
        rw [Nat.zero_add] at hc
        rw [if_neg (nI_ge (show k < j by omega) (by omega)), lt_is, nI_add, gd_t (inb_nI (show a + k < 740 by omega) (by decide)), lt_is, gd_t (inb_nI (show k < lenS i by omega) (by omega)), nI_clamp (show a + k < 2 ^ 31 by omega), nI_clamp (show k < 2 ^ 31 by omega), ht1, hby]
        have key : (nI (b (a + k))).toInt8.toInt32 = nI (cb i k) ↔ b (a + k) = cb i k := by
          have : ∀ (v : Fin 256) (w : Fin 128), (nI v.val).toInt8.toInt32 = nI w.val ↔ v.val = w.val := by decide +kernel
          exact this ⟨b (a + k), hb⟩ ⟨cb i k, by have := hc.2; omega⟩
        by_cases e : b (a + k) = cb i k
        · rw [if_pos (key.mpr e), lt_is, nI_1]
          refine ok_i ⟨m - 1, by omega, k + 1, by omega, rfl, fun r hr => ?_⟩
          by_cases q2 : r = k
          · subst q2; exact e
          · exact hall r (by omega)
        · rw [if_neg (fun w => e (key.mp w))]
          exact ok_i (Or.inr ⟨rfl, fun hm => e (hm.2 k (by omega))⟩)
    obtain ⟨x, ex, hx⟩ := hk
    rcases hx with ⟨rfl, hx⟩ | ⟨rfl, hx⟩
    · exact Or.inl ⟨ex, hx⟩
    · exact Or.inr ⟨ex, hx⟩
  · rw [if_neg (show ¬ nI j = Int32.ofNat (lenS i) from fun e => q ((nI_eq (by omega) (by omega)).mp e))]
    exact Or.inr ⟨rfl, fun hm => q hm.1⟩
theorem isY_no {i : Nat} {at0 tk mny : Int32} {t1 : Nat → Int32} (h : ¬ tk = 1) : f6_isY i at0 tk mny t1 = some 0 := by
  unfold f6_isY
  rw [if_neg h]
/-- is a word, the model's side -/
theorem isWord_word {a j i : Nat} {b : Nat → Nat} (hi : i < 29) (hj : j ≤ 6) (hl : ∀ k, k < j → isL (b (a + k))) : (Mt b a j i → f14_isWord (nI (wm i)) 2 (lN (e27 b a j)) = some 1) ∧ (¬ Mt b a j i → f14_isWord (nI (wm i)) 2 (lN (e27 b a j)) = some 0) := by
  obtain ⟨h1, h2, h3, h4⟩ := cb_is hi
  have l3 := e27_lt j hl
  have l4 := e27_lt (lenS i) (fun k hk => (h3 k hk).1)
  have p3 := p27 hj
  have p4 := p27 h1
  have c2 : (27 : Nat) ^ 6 < 2 ^ 63 := by decide
  have key : lg_cmp (lN (e27 b a j)) (lN (e27 (cb i) 0 (lenS i))) = 0 ↔ Mt b a j i := by
    rw [cmp_0, pk_lEQ (by omega) (by omega), Mt_e27 hi hl]
  unfold f14_isWord f14_isWord_j24
  rw [if_pos rfl, h4, bind_is, lt_is]
  exact ⟨fun hm => by rw [if_pos (key.mpr hm)], fun hm => by rw [if_neg (fun e => hm (key.mp e))]⟩
theorem isWord_no {k : Int32} {kd : Int32} {wd : Int64} (h : ¬ kd = 2) : f14_isWord k kd wd = some 0 := by
  unfold f14_isWord f14_isWord_j24
  rw [if_neg h]
theorem find_word {a j n1 b1 : Nat} {b : Nat → Nat} {t1 t14 : Nat → Int32} (h : TP b t1 t14) (haj : a + j ≤ 740) (hj : j ≤ 8) (hb : b1 + n1 ≤ 29) : (∃ k, k < n1 ∧ Mt b a j (b1 + k) ∧ f6_findY n1 b1 (nI a) 1 (nI j) t1 = some (nI k)) ∨ (f6_findY n1 b1 (nI a) 1 (nI j) t1 = some (-1) ∧ ∀ k, k < n1 → ¬ Mt b a j (b1 + k)) := by
  have hk : Ok (f6_findY n1 b1 (nI a) 1 (nI j) t1) (fun x => (∃ k, k < n1 ∧ Mt b a j (b1 + k) ∧ x = nI k) ∨ (x = -1 ∧ ∀ k, k < n1 → ¬ Mt b a j (b1 + k))) := by
    unfold f6_findY
    refine ok_b (Q := fun (x : Int32 ⊕ Int32) => (∃ k, k < n1 ∧ Mt b a j (b1 + k) ∧ x = .inl (nI k)) ∨ (x = .inr (-1) ∧ ∀ k, k < n1 → ¬ Mt b a j (b1 + k))) ?_ ?_
    · refine ok_fu (fun m s => ∃ k : Nat, k + m = n1 ∧ s = nI k ∧ ∀ q, q < k → ¬ Mt b a j (b1 + q)) (k := n1) (by omega) ⟨0, by omega, rfl, fun q hq => absurd hq (Nat.not_lt_zero _)⟩ ?_
      rintro m s ⟨k, hk, rfl, hall⟩
      unfold f6_findY_s1
      by_cases hjk : n1 ≤ k
      · rw [if_pos (show Int32.ofNat n1 ≤ nI k from nI_le hjk (by omega))]
        exact ok_i (Or.inr ⟨rfl, fun q hq => hall q (by omega)⟩)
      · rw [if_neg (show ¬ Int32.ofNat n1 ≤ nI k from nI_ge (show k < n1 by omega) (by omega)), gd_t (inb_nI (show k < n1 by omega) (by omega)), nI_clamp (by omega)]
        rcases isY_word h haj (show b1 + k < 29 by omega) hj with ⟨e, hm⟩ | ⟨e, hm⟩
        · rw [e, bind_is, if_neg (by decide)]
          exact ok_i (Or.inl ⟨k, by omega, hm, rfl⟩)
        · rw [e, bind_is, if_pos rfl, lt_is, nI_1]
          refine ok_i ⟨m - 1, by omega, k + 1, by omega, rfl, fun q hq => ?_⟩
          by_cases q2 : q = k
          · subst q2; exact hm
          · exact hall q (by omega)
    · rintro x (⟨k, h1, h2, rfl⟩ | ⟨rfl, h2⟩)
      · exact ok_i (Or.inl ⟨k, h1, h2, rfl⟩)
      · exact ok_i (Or.inr ⟨rfl, h2⟩)
  obtain ⟨x, ex, hx⟩ := hk
  rcases hx with ⟨k, h1, h2, rfl⟩ | ⟨rfl, h2⟩
  · exact Or.inl ⟨k, h1, h2, ex⟩
  · exact Or.inr ⟨ex, h2⟩
theorem find_no {n1 b1 : Nat} {at0 tk mny : Int32} {t1 : Nat → Int32} (hn : n1 ≤ 29) (h : ¬ tk = 1) : f6_findY n1 b1 at0 tk mny t1 = some (-1) := by
  have hk : Ok (f6_findY n1 b1 at0 tk mny t1) (fun x => x = -1) := by
    unfold f6_findY
    refine ok_b (Q := fun (x : Int32 ⊕ Int32) => x = .inr (-1)) ?_ ?_
    · refine ok_fu (fun m s => ∃ k : Nat, k + m = n1 ∧ s = nI k) (k := n1) (by omega) ⟨0, by omega, rfl⟩ ?_
      rintro m s ⟨k, hk, rfl⟩
      unfold f6_findY_s1
      by_cases hjk : n1 ≤ k
      · rw [if_pos (show Int32.ofNat n1 ≤ nI k from nI_le hjk (by omega))]
        exact ok_i rfl
      · rw [if_neg (show ¬ Int32.ofNat n1 ≤ nI k from nI_ge (show k < n1 by omega) (by omega)), gd_t (inb_nI (show k < n1 by omega) (by omega)), isY_no h, bind_is, if_pos rfl, lt_is, nI_1]
        exact ok_i ⟨m - 1, by omega, k + 1, by omega, rfl⟩
    · rintro x rfl
      exact ok_i rfl
  obtain ⟨x, ex, rfl⟩ := hk
  exact ex
def wi (k : Nat) : Nat := [0, 8, 9, 1, 2, 3, 4, 5, 6, 7, 10, 11, 12, 13, 19, 14, 15, 16, 17, 18, 20, 21, 22, 23, 24, 25, 26, 27, 28].getD k 0
theorem wi_all : ∀ k : Fin 29, wi k.val < 29 ∧ wm (wi k.val) = k.val ∧ wi (wm k.val) = k.val ∧ wm k.val < 29 := by decide +kernel
theorem wi_is {k : Nat} (h : k < 29) : wi k < 29 ∧ wm (wi k) = k ∧ wi (wm k) = k ∧ wm k < 29 := wi_all ⟨k, h⟩
/-- a word of the model by its number -/
theorem isWord_k {a j k : Nat} {b : Nat → Nat} (hk : k < 29) (hj : j ≤ 6) (hl : ∀ k, k < j → isL (b (a + k))) : (Mt b a j (wi k) ∧ f14_isWord (nI k) 2 (lN (e27 b a j)) = some 1) ∨ (¬ Mt b a j (wi k) ∧ f14_isWord (nI k) 2 (lN (e27 b a j)) = some 0) := by
  obtain ⟨h1, h2, -⟩ := wi_is hk
  have := isWord_word (a := a) (b := b) h1 hj hl
  rw [h2] at this
  by_cases q : Mt b a j (wi k)
  · exact Or.inl ⟨q, this.1 q⟩
  · exact Or.inr ⟨q, this.2 q⟩
theorem isName_is {a j : Nat} {b : Nat → Nat} {t1 t14 : Nat → Int32} (h : TP b t1 t14) (haj : a + j ≤ 740) (hj : j ≤ 6) (hl : ∀ k, k < j → isL (b (a + k))) : (f6_isNameY (nI a) 1 (nI j) t1 = some 1 ∧ f14_isName 2 (lN (e27 b a j)) = some 1 ∧ ∀ i, i < 29 → ¬ Mt b a j i) ∨ (f6_isNameY (nI a) 1 (nI j) t1 = some 0 ∧ f14_isName 2 (lN (e27 b a j)) = some 0 ∧ ∃ i, i < 29 ∧ Mt b a j i) := by
  have h14 : (f14_isName 2 (lN (e27 b a j)) = some 1 ∧ ∀ i, i < 29 → ¬ Mt b a j i) ∨ (f14_isName 2 (lN (e27 b a j)) = some 0 ∧ ∃ i, i < 29 ∧ Mt b a j i) := by
    have hk : Ok (f14_isName 2 (lN (e27 b a j))) (fun x => (x = 1 ∧ ∀ k, k < 29 → ¬ Mt b a j (wi k)) ∨ (x = 0 ∧ ∃ k, k < 29 ∧ Mt b a j (wi k))) := by
      unfold f14_isName
      rw [if_pos rfl]
      refine ok_b (Q := fun x => (x = 1 ∧ ∀ k, k < 29 → ¬ Mt b a j (wi k)) ∨ (x = 0 ∧ ∃ k, k < 29 ∧ Mt b a j (wi k))) ?_ (fun x hx => ok_i hx)
      refine ok_fu (fun m s => ∃ k : Nat, k + m = 29 ∧ s = nI k ∧ ∀ q, q < k → ¬ Mt b a j (wi q)) (k := 29) (by omega) ⟨0, by omega, rfl, fun q hq => absurd hq (Nat.not_lt_zero _)⟩ ?_
      rintro m s ⟨k, hk, rfl, hall⟩
      unfold f14_isName_s2
      by_cases hk28 : 28 < k
      · rw [if_pos (show (28 : Int32) < nI k from nI_lt (a := 28) hk28 (by omega))]
        exact ok_i (Or.inl ⟨rfl, fun q hq => hall q (by omega)⟩)
      · have hk29 : k < 29 := by omega
        obtain ⟨h1, h2, -⟩ := wi_is hk29
        obtain ⟨g1, g2, g3, g4⟩ := cb_is h1
        rw [h2] at g4
        rw [if_neg (show ¬ (28 : Int32) < nI k from nI_nlt (b := k) (a := 28) (by omega) (by decide)), g4, bind_is, lt_is]
        have l3 := e27_lt j hl
        have l4 := e27_lt (lenS (wi k)) (fun k hk => (g3 k hk).1)
        have p3 := p27 hj
        have p4 := p27 g1
        have c2 : (27 : Nat) ^ 6 < 2 ^ 63 := by decide
        have key : lg_cmp (lN (e27 b a j)) (lN (e27 (cb (wi k)) 0 (lenS (wi k)))) = 0 ↔ Mt b a j (wi k) := by
          rw [cmp_0, pk_lEQ (by omega) (by omega), Mt_e27 h1 hl]
        by_cases q : Mt b a j (wi k)
        · rw [if_pos (key.mpr q)]
          exact ok_i (Or.inr ⟨rfl, k, hk29, q⟩)
        · rw [if_neg (fun e => q (key.mp e)), lt_is, nI_1]
          refine ok_i ⟨m - 1, by omega, k + 1, by omega, rfl, fun r hr => ?_⟩
          by_cases q2 : r = k
          · subst q2; exact q
          · exact hall r (by omega)
    obtain ⟨x, ex, hx⟩ := hk
    rcases hx with ⟨rfl, hx⟩ | ⟨rfl, k, hk, hx⟩
    · refine Or.inl ⟨ex, fun i hi hm => ?_⟩
      obtain ⟨-, -, h3, h4⟩ := wi_is hi
      exact hx (wm i) h4 (by rw [h3]; exact hm)
    · exact Or.inr ⟨ex, wi k, (wi_is hk).1, hx⟩
  have f0 := find_word (n1 := 10) (b1 := 0) h haj (show j ≤ 8 by omega) (by decide)
  have f1 := find_word (n1 := 4) (b1 := 10) h haj (show j ≤ 8 by omega) (by decide)
  have f2 := find_word (n1 := 5) (b1 := 14) h haj (show j ≤ 8 by omega) (by decide)
  have f3 := find_word (n1 := 10) (b1 := 19) h haj (show j ≤ 8 by omega) (by decide)
  have no : ∀ {P : Prop}, (∃ i, i < 29 ∧ Mt b a j i) → (∀ k, k < 10 → ¬ Mt b a j (0 + k)) → (∀ k, k < 4 → ¬ Mt b a j (10 + k)) → (∀ k, k < 5 → ¬ Mt b a j (14 + k)) → (∀ k, k < 10 → ¬ Mt b a j (19 + k)) → P := by
    rintro P ⟨i, hi, hm⟩ a0 a1 a2 a3
    by_cases c0 : i < 10
    · exact (a0 i c0 (by rw [Nat.zero_add]; exact hm)).elim
    · by_cases c1 : i < 14
      · exact (a1 (i - 10) (by omega) (by rw [show 10 + (i - 10) = i by omega]; exact hm)).elim
      · by_cases c2 : i < 19
        · exact (a2 (i - 14) (by omega) (by rw [show 14 + (i - 14) = i by omega]; exact hm)).elim
        · exact (a3 (i - 19) (by omega) (by rw [show 19 + (i - 19) = i by omega]; exact hm)).elim
  unfold f6_isNameY f6_isNameY_j72
  rw [if_pos rfl]
  have yes : ∀ i, i < 29 → Mt b a j i → f14_isName 2 (lN (e27 b a j)) = some 0 ∧ ∃ i, i < 29 ∧ Mt b a j i := by
    intro i hi hm
    rcases h14 with ⟨-, hx⟩ | h
    · exact (hx i hi hm).elim
    · exact h
  rcases f0 with ⟨k, hk, hm, e⟩ | ⟨e, n0⟩
  · rw [e, bind_is, if_neg (nI_nm1 (by omega))]
    exact Or.inr ⟨rfl, yes _ (by omega) hm⟩
  · rw [e, bind_is, if_pos rfl]
    rcases f1 with ⟨k, hk, hm, e⟩ | ⟨e, n1⟩
    · rw [e, bind_is, if_neg (nI_nm1 (by omega))]
      exact Or.inr ⟨rfl, yes _ (by omega) hm⟩
    · rw [e, bind_is, if_pos rfl]
      rcases f2 with ⟨k, hk, hm, e⟩ | ⟨e, n2⟩
      · rw [e, bind_is, if_neg (nI_nm1 (by omega))]
        exact Or.inr ⟨rfl, yes _ (by omega) hm⟩
      · rw [e, bind_is, if_pos rfl]
        rcases f3 with ⟨k, hk, hm, e⟩ | ⟨e, n3⟩
        · rw [e, bind_is, if_neg (nI_nm1 (by omega))]
          exact Or.inr ⟨rfl, yes _ (by omega) hm⟩
        · rw [e, bind_is, if_pos rfl]
          rcases h14 with ⟨h1, h2⟩ | ⟨h1, h2⟩
          · exact Or.inl ⟨rfl, h1, h2⟩
          · exact no h2 n0 n1 n2 n3
