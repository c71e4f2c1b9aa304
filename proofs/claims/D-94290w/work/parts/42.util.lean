/-! the plain law: helpers: loops that count, sums, grids -/
set_option maxRecDepth 100000
theorem lt_is {α β : Type} (x : α) (f : α → β) : lt x f = f x := rfl
theorem bind_is {α β : Type} (x : α) (f : α → Option β) : (some x).bind f = f x := rfl
theorem ok_some {α : Type} {x : α} {P : α → Prop} : Ok (some x) P = P x := propext ⟨fun ⟨_, e, h⟩ => by cases e; exact h, fun h => ⟨x, rfl, h⟩⟩
theorem ok_eq {α : Type} {o : Option α} {x : α} {P : α → Prop} (e : o = some x) (h : P x) : Ok o P := ⟨x, e, h⟩
theorem z_0 : (0 : Int32) = nI 0 := rfl
theorem z_1 : (1 : Int32) = nI 1 := rfl
theorem z_2 : (2 : Int32) = nI 2 := rfl
theorem z_3 : (3 : Int32) = nI 3 := rfl
theorem z_4 : (4 : Int32) = nI 4 := rfl
theorem z_5 : (5 : Int32) = nI 5 := rfl
theorem z_6 : (6 : Int32) = nI 6 := rfl
theorem z_7 : (7 : Int32) = nI 7 := rfl
theorem z_8 : (8 : Int32) = nI 8 := rfl
theorem z_9 : (9 : Int32) = nI 9 := rfl
theorem z_10 : (10 : Int32) = nI 10 := rfl
theorem z_11 : (11 : Int32) = nI 11 := rfl
theorem z_12 : (12 : Int32) = nI 12 := rfl
theorem z_16 : (16 : Int32) = nI 16 := rfl
theorem z_20 : (20 : Int32) = nI 20 := rfl
theorem z_21 : (21 : Int32) = nI 21 := rfl
theorem z_30 : (30 : Int32) = nI 30 := rfl
theorem z_59 : (59 : Int32) = nI 59 := rfl
theorem z_60 : (60 : Int32) = nI 60 := rfl
theorem z_64 : (64 : Int32) = nI 64 := rfl
theorem z_100 : (100 : Int32) = nI 100 := rfl
theorem z_130 : (130 : Int32) = nI 130 := rfl
theorem z_177 : (177 : Int32) = nI 177 := rfl
theorem z_192 : (192 : Int32) = nI 192 := rfl
theorem z_200 : (200 : Int32) = nI 200 := rfl
theorem z_999 : (999 : Int32) = nI 999 := rfl
theorem z_3600 : (3600 : Int32) = nI 3600 := rfl
/-- runs of a loop -/
def itr {τ κ : Type} (s : τ → Option (τ ⊕ κ)) : Nat → τ → τ → Prop
  | 0, a, b => a = b
  | n + 1, a, b => ∃ c, s a = some (.inl c) ∧ itr s n c b
theorem itr_add {τ κ : Type} {s : τ → Option (τ ⊕ κ)} {k : Nat} {c : τ} : ∀ {n : Nat} {a b : τ}, itr s n a b → itr s k b c → itr s (n + k) a c
  | 0, a, b, h, h2 => by
    cases h
    rw [Nat.zero_add]
    exact h2
  | n + 1, a, b, ⟨d, e, h⟩, h2 => by
    rw [Nat.add_right_comm]
    exact ⟨d, e, itr_add h h2⟩
theorem itr_snoc {τ κ : Type} {s : τ → Option (τ ⊕ κ)} {n : Nat} {a b c : τ} (h : itr s n a b) (e : s b = some (.inl c)) : itr s (n + 1) a c := itr_add h ⟨c, e, rfl⟩
theorem itr_whl {τ κ : Type} {s : τ → Option (τ ⊕ κ)} {m : Nat} : ∀ {n : Nat} {a b : τ}, itr s n a b → whl s (m + n) a = whl s m b
  | 0, a, b, h => by cases h; rfl
  | n + 1, a, b, ⟨d, e, h⟩ => by
    rw [← Nat.add_assoc, whl_s, e]
    exact itr_whl h
theorem itr_FU {τ κ : Type} {s : τ → Option (τ ⊕ κ)} {n : Nat} {a b : τ} {r : κ} (h : itr s n a b) (hn : n < 90000) (e : s b = some (.inr r)) : whl s FU a = some r := by
  obtain ⟨m, hm⟩ := FU_s (n + 1) (by omega)
  rw [hm, show m + (n + 1) = (m + 1) + n by omega, itr_whl h, whl_s, e]
  rfl
/-- a loop that counts from 0 to N -/
theorem for_ok {σ τ κ : Type} {s : τ → Option (τ ⊕ κ)} {P : κ → Prop} (mk : Nat → σ → τ) (I : Nat → σ → Prop) (N : Nat) (hN : N < 90000) {x : σ} (h0 : I 0 x) (hs : ∀ i x, i < N → I i x → Ok (s (mk i x)) (fun o => ∃ y, o = .inl (mk (i + 1) y) ∧ I (i + 1) y)) (he : ∀ x, I N x → Ok (s (mk N x)) (fun o => ∃ r, o = .inr r ∧ P r)) : Ok (whl s FU (mk 0 x)) P := by
  have key : ∀ i, i ≤ N → ∃ y, itr s i (mk 0 x) (mk i y) ∧ I i y := by
    intro i
    induction i with
    | zero => exact fun _ => ⟨x, rfl, h0⟩
    | succ i ih =>
      intro hi
      obtain ⟨y, h1, h2⟩ := ih (by omega)
      obtain ⟨o, eo, z, rfl, h3⟩ := hs i y (by omega) h2
      exact ⟨z, itr_snoc h1 eo, h3⟩
  obtain ⟨y, h1, h2⟩ := key N (Nat.le_refl _)
  obtain ⟨o, eo, r, rfl, h3⟩ := he y h2
  exact ⟨r, itr_FU h1 hN eo, h3⟩
/-- two such loops in step -/
theorem for2_ok {σ τ κ σ2 τ2 κ2 : Type} {s : τ → Option (τ ⊕ κ)} {s2 : τ2 → Option (τ2 ⊕ κ2)} {P : κ → κ2 → Prop} (mk : Nat → σ → τ) (mk2 : Nat → σ2 → τ2) (I : Nat → σ → σ2 → Prop) (N : Nat) (hN : N < 90000) {x : σ} {x2 : σ2} (h0 : I 0 x x2)
    (hs : ∀ i x x2, i < N → I i x x2 → Ok (s (mk i x)) (fun o => Ok (s2 (mk2 i x2)) (fun q => ∃ y y2, o = .inl (mk (i + 1) y) ∧ q = .inl (mk2 (i + 1) y2) ∧ I (i + 1) y y2)))
    (he : ∀ x x2, I N x x2 → Ok (s (mk N x)) (fun o => Ok (s2 (mk2 N x2)) (fun q => ∃ r r2, o = .inr r ∧ q = .inr r2 ∧ P r r2))) : Ok (whl s FU (mk 0 x)) (fun r => Ok (whl s2 FU (mk2 0 x2)) (P r)) := by
  have key : ∀ i, i ≤ N → ∃ y y2, itr s i (mk 0 x) (mk i y) ∧ itr s2 i (mk2 0 x2) (mk2 i y2) ∧ I i y y2 := by
    intro i
    induction i with
    | zero => exact fun _ => ⟨x, x2, rfl, rfl, h0⟩
    | succ i ih =>
      intro hi
      obtain ⟨y, y2, h1, h2, h3⟩ := ih (by omega)
      obtain ⟨o, eo, q, eq, z, z2, rfl, rfl, h4⟩ := hs i y y2 (by omega) h3
      exact ⟨z, z2, itr_snoc h1 eo, itr_snoc h2 eq, h4⟩
  obtain ⟨y, y2, h1, h2, h3⟩ := key N (Nat.le_refl _)
  obtain ⟨o, eo, q, eq, r, r2, rfl, rfl, h4⟩ := he y y2 h3
  exact ⟨r, itr_FU h1 hN eo, r2, itr_FU h2 hN eq, h4⟩
/-! a grid of C columns, R rows: cell (r, c) is 8 r + c on one side, C r + c on the other -/
def kk (C R j : Nat) : Nat := if j / 8 < R then C * (j / 8) + min (j % 8) C else C * R
theorem kk_0 {C R : Nat} : kk C R 0 = 0 := by
  unfold kk
  by_cases h : 0 < R
  · rw [if_pos (by simpa using h)]
    simp
  · rw [if_neg (by simpa using h), show R = 0 by omega]
    simp
theorem kk_64 {C R : Nat} (hR : R ≤ 8) : kk C R 64 = C * R := by
  unfold kk
  rw [if_neg (by omega)]
theorem kk_at {C R r c : Nat} (hC : C ≤ 8) (hr : r < R) (hc : c < C) : kk C R (8 * r + c) = C * r + c := by
  unfold kk
  rw [show (8 * r + c) / 8 = r by omega, show (8 * r + c) % 8 = c by omega, if_pos hr, Nat.min_eq_left (by omega)]
theorem kk_in {C R r c : Nat} (hC : C ≤ 8) (hr : r < R) (hc : c < C) : kk C R (8 * r + c + 1) = C * r + c + 1 := by
  unfold kk
  by_cases h : c = 7
  · subst h
    rw [show (8 * r + 7 + 1) / 8 = r + 1 by omega, show (8 * r + 7 + 1) % 8 = 0 by omega, show C = 8 by omega]
    by_cases h2 : r + 1 < R
    · rw [if_pos h2]
      omega
    · rw [if_neg h2, show R = r + 1 by omega]
      omega
  · rw [show (8 * r + c + 1) / 8 = r by omega, show (8 * r + c + 1) % 8 = c + 1 by omega, if_pos hr, Nat.min_eq_left (by omega)]
    omega
theorem kk_out {C R j : Nat} (hC : C ≤ 8) (h : ¬ (j / 8 < R ∧ j % 8 < C)) : kk C R (j + 1) = kk C R j := by
  unfold kk
  by_cases h1 : j / 8 < R
  · have h2 : C ≤ j % 8 := by omega
    rw [if_pos h1, Nat.min_eq_right h2]
    by_cases h3 : j % 8 = 7
    · rw [show (j + 1) / 8 = j / 8 + 1 by omega, show (j + 1) % 8 = 0 by omega]
      by_cases h4 : j / 8 + 1 < R
      · rw [if_pos h4, Nat.mul_succ]
        simp
      · rw [if_neg h4, show R = j / 8 + 1 by omega, Nat.mul_succ]
    · rw [show (j + 1) / 8 = j / 8 by omega, show (j + 1) % 8 = j % 8 + 1 by omega, if_pos h1, Nat.min_eq_right (by omega)]
  · rw [if_neg h1, if_neg (by omega)]
/-- one side goes over the 64, the other over the grid alone -/
theorem ok_grid {σ τ κ σ2 τ2 κ2 : Type} {s : τ → Option (τ ⊕ κ)} {s2 : τ2 → Option (τ2 ⊕ κ2)} {P : κ → κ2 → Prop} (mk : Nat → σ → τ) (mk2 : Nat → σ2 → τ2) (I : Nat → σ → σ2 → Prop) {C R : Nat} (hC : C ≤ 8) (hR : R ≤ 8) {x : σ} {x2 : σ2} (h0 : I 0 x x2)
    (hs : ∀ r c x x2, r < R → c < C → I (8 * r + c) x x2 → Ok (s (mk (8 * r + c) x)) (fun o => Ok (s2 (mk2 (C * r + c) x2)) (fun q => ∃ y y2, o = .inl (mk (8 * r + c + 1) y) ∧ q = .inl (mk2 (C * r + c + 1) y2) ∧ I (8 * r + c + 1) y y2)))
    (hn : ∀ j x x2, j < 64 → ¬ (j / 8 < R ∧ j % 8 < C) → I j x x2 → Ok (s (mk j x)) (fun o => ∃ y, o = .inl (mk (j + 1) y) ∧ I (j + 1) y x2))
    (he : ∀ x x2, I 64 x x2 → Ok (s (mk 64 x)) (fun o => Ok (s2 (mk2 (C * R) x2)) (fun q => ∃ r r2, o = .inr r ∧ q = .inr r2 ∧ P r r2))) : Ok (whl s FU (mk 0 x)) (fun r => Ok (whl s2 FU (mk2 0 x2)) (P r)) := by
  have key : ∀ j, j ≤ 64 → ∃ y y2, itr s j (mk 0 x) (mk j y) ∧ itr s2 (kk C R j) (mk2 0 x2) (mk2 (kk C R j) y2) ∧ I j y y2 := by
    intro j
    induction j with
    | zero =>
      rw [kk_0]
      exact fun _ => ⟨x, x2, rfl, rfl, h0⟩
    | succ j ih =>
      intro hj
      obtain ⟨y, y2, h1, h2, h3⟩ := ih (by omega)
      by_cases hg : j / 8 < R ∧ j % 8 < C
      · obtain ⟨hr, hc⟩ := hg
        have ej : j = 8 * (j / 8) + j % 8 := by omega
        generalize j / 8 = r at ej hr
        generalize j % 8 = c at ej hc
        subst ej
        obtain ⟨o, eo, q, eq, z, z2, rfl, rfl, h4⟩ := hs r c y y2 hr hc h3
        rw [kk_in hC hr hc]
        rw [kk_at hC hr hc] at h2
        exact ⟨z, z2, itr_snoc h1 eo, itr_snoc h2 eq, h4⟩
      · obtain ⟨o, eo, z, rfl, h4⟩ := hn j y y2 (by omega) hg h3
        rw [kk_out hC hg]
        exact ⟨z, y2, itr_snoc h1 eo, h2, h4⟩
  obtain ⟨y, y2, h1, h2, h3⟩ := key 64 (Nat.le_refl _)
  rw [kk_64 hR] at h2
  obtain ⟨o, eo, q, eq, r, r2, rfl, rfl, h4⟩ := he y y2 h3
  have hCR : C * R ≤ 8 * 8 := Nat.mul_le_mul hC hR
  exact ⟨r, itr_FU h1 (by decide) eo, r2, itr_FU h2 (by omega) eq, h4⟩
/-- one side by rows and columns, the other over the grid in one -/
theorem ok_nest {σ τ κ ι ε σ2 τ2 κ2 : Type} {s : τ → Option (τ ⊕ κ)} {si : Nat → ι → Option (ι ⊕ ε)} {e : Nat → ε → Option (τ ⊕ κ)} {s2 : τ2 → Option (τ2 ⊕ κ2)} {P : κ → κ2 → Prop} (mk : Nat → σ → τ) (mi : Nat → σ → ι) (fi : σ → ε) (mk2 : Nat → σ2 → τ2) (I : Nat → Nat → σ → σ2 → Prop) {C R : Nat} (hC : C ≤ 8) (hR : R ≤ 8) {x : σ} {x2 : σ2} (h0 : I 0 0 x x2)
    (h1 : ∀ r x, r < R → s (mk r x) = (whl (si r) FU (mi 0 x)).bind (e r)) (h2 : ∀ r x, r < R → si r (mi C x) = some (.inr (fi x))) (h3 : ∀ r x, r < R → e r (fi x) = some (.inl (mk (r + 1) x)))
    (hs : ∀ r c x x2, r < R → c < C → I r c x x2 → Ok (si r (mi c x)) (fun o => Ok (s2 (mk2 (C * r + c) x2)) (fun q => ∃ y y2, o = .inl (mi (c + 1) y) ∧ q = .inl (mk2 (C * r + c + 1) y2) ∧ I r (c + 1) y y2)))
    (hn : ∀ r x x2, r < R → I r C x x2 → I (r + 1) 0 x x2)
    (he : ∀ x x2, I R 0 x x2 → Ok (s (mk R x)) (fun o => Ok (s2 (mk2 (C * R) x2)) (fun q => ∃ r r2, o = .inr r ∧ q = .inr r2 ∧ P r r2))) : Ok (whl s FU (mk 0 x)) (fun r => Ok (whl s2 FU (mk2 0 x2)) (P r)) := by
  have key : ∀ r, r ≤ R → ∃ y y2, itr s r (mk 0 x) (mk r y) ∧ itr s2 (C * r) (mk2 0 x2) (mk2 (C * r) y2) ∧ I r 0 y y2 := by
    intro r
    induction r with
    | zero => exact fun _ => ⟨x, x2, rfl, rfl, h0⟩
    | succ r ih =>
      intro hr
      obtain ⟨y, y2, g1, g2, g3⟩ := ih (by omega)
      have row : ∀ c, c ≤ C → ∃ z z2, itr (si r) c (mi 0 y) (mi c z) ∧ itr s2 (C * r + c) (mk2 0 x2) (mk2 (C * r + c) z2) ∧ I r c z z2 := by
        intro c
        induction c with
        | zero => exact fun _ => ⟨y, y2, rfl, g2, g3⟩
        | succ c ihc =>
          intro hc
          obtain ⟨z, z2, k1, k2, k3⟩ := ihc (by omega)
          obtain ⟨o, eo, q, eq, w, w2, rfl, rfl, k4⟩ := hs r c z z2 (by omega) (by omega) k3
          exact ⟨w, w2, itr_snoc k1 eo, itr_snoc k2 eq, k4⟩
      obtain ⟨z, z2, k1, k2, k3⟩ := row C (Nat.le_refl _)
      refine ⟨z, z2, itr_snoc g1 ?_, ?_, hn r z z2 (by omega) k3⟩
      · rw [h1 r y (by omega), itr_FU k1 (by omega) (h2 r z (by omega))]
        exact h3 r z (by omega)
      · rw [Nat.mul_succ]
        exact k2
  obtain ⟨y, y2, g1, g2, g3⟩ := key R (Nat.le_refl _)
  obtain ⟨o, eo, q, eq, r, r2, rfl, rfl, g4⟩ := he y y2 g3
  have hCR : C * R ≤ 8 * 8 := Nat.mul_le_mul hC hR
  exact ⟨r, itr_FU g1 (by omega) eo, r2, itr_FU g2 (by omega) eq, g4⟩
/-- a round of two loops in step -/
def st2 {σ ρ τ κ : Type} (J : Nat → σ → τ → Prop) (R : ρ → κ → Prop) (k : Nat) : σ ⊕ ρ → τ ⊕ κ → Prop
  | .inl s, .inl t => ∃ k', k' < k ∧ J k' s t
  | .inr r, .inr q => R r q
  | _, _ => False
theorem ok_lp2 {σ ρ τ κ : Type} {s1 : σ → Option (σ ⊕ ρ)} {s2 : τ → Option (τ ⊕ κ)} {R : ρ → κ → Prop} (J : Nat → σ → τ → Prop) {k : Nat} {s : σ} {t : τ} (hk : k < 100000) (hI : J k s t) (hs : ∀ k s t, J k s t → Ok (s1 s) (fun o => Ok (s2 t) (fun q => st2 J R k o q))) : Ok (whl s1 FU s) (fun x => Ok (whl s2 FU t) (R x)) :=
  ok_fu2 J hk hI (fun k s t h => ok_w2 (hs k s t h) (fun o q h => by
    cases o <;> cases q <;> exact h))
/-! sums -/
def sm (f : Nat → Nat) : Nat → Nat
  | 0 => 0
  | n + 1 => sm f n + f n
theorem sm_eq {f g : Nat → Nat} : ∀ {n : Nat}, (∀ j, j < n → f j = g j) → sm f n = sm g n
  | 0, _ => rfl
  | n + 1, h => by
    show sm f n + f n = sm g n + g n
    rw [sm_eq (fun j hj => h j (by omega)), h n (by omega)]
theorem sm_one {f g : Nat → Nat} {k : Nat} : ∀ {n : Nat}, k < n → (∀ j, j < n → j ≠ k → f j = g j) → sm f n + g k = sm g n + f k
  | 0, h, _ => absurd h (Nat.not_lt_zero _)
  | n + 1, h, he => by
    show sm f n + f n + g k = sm g n + g n + f k
    by_cases q : k = n
    · subst q
      have := sm_eq (f := f) (g := g) (n := k) (fun j hj => he j (by omega) (by omega))
      omega
    · have := sm_one (f := f) (g := g) (k := k) (n := n) (by omega) (fun j hj => he j (by omega))
      have e := he n (by omega) (fun e => q e.symm)
      omega
theorem sm_le {f : Nat → Nat} {k : Nat} : ∀ {n : Nat}, k < n → f k ≤ sm f n
  | 0, h => absurd h (Nat.not_lt_zero _)
  | n + 1, h => by
    show f k ≤ sm f n + f n
    by_cases q : k = n
    · subst q
      omega
    · have := sm_le (f := f) (k := k) (n := n) (by omega)
      omega
theorem sm_le2 {f : Nat → Nat} {k j : Nat} : ∀ {n : Nat}, k < n → j < n → k ≠ j → f k + f j ≤ sm f n
  | 0, h, _, _ => absurd h (Nat.not_lt_zero _)
  | n + 1, h, h2, h3 => by
    show f k + f j ≤ sm f n + f n
    by_cases q : k = n
    · subst q
      have := sm_le (f := f) (k := j) (n := k) (by omega)
      omega
    · by_cases q2 : j = n
      · subst q2
        have := sm_le (f := f) (k := k) (n := j) (by omega)
        omega
      · have := sm_le2 (f := f) (k := k) (j := j) (n := n) (by omega) (by omega) h3
        omega
theorem sm_0 {f : Nat → Nat} : ∀ {n : Nat}, (∀ j, j < n → f j = 0) → sm f n = 0
  | 0, _ => rfl
  | n + 1, h => by
    show sm f n + f n = 0
    rw [sm_0 (fun j hj => h j (by omega)), h n (by omega)]
def lsum : List Nat → Nat
  | [] => 0
  | a :: l => a + lsum l
theorem lsum_app (x : Nat) : ∀ l : List Nat, lsum (l ++ [x]) = lsum l + x
  | [] => by
    show x + 0 = 0 + x
    omega
  | a :: l => by
    show a + lsum (l ++ [x]) = a + lsum l + x
    rw [lsum_app x l]
    omega

