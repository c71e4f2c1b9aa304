/-! the plain law: a night's teams -/
set_option maxRecDepth 100000
theorem RowG.base {N P W0 bk T0 t : Nat} {x : Int32 × Int32 × Int32 × Int32 × Int32 × Int32 × Int32 × Int32 × (Nat → Int32) × (Nat → Int32) × (Nat → Int32) × (Nat → Int32) × (Nat → Int32) × (Nat → Int32) × (Nat → Int32) × (Nat → Nat → Int32)} {v : Int32 × Int32 × Int32 × Int32 × Int32 × Int32 × Int32 × Int32 × (Nat → Int32) × (Nat → Int32) × (Nat → Int32) × (Nat → Int32) × (Nat → Int32) × (Nat → Int32) × (Nat → Int32) × (Nat → Int32)} (h : RowG N P W0 bk T0 t x v) : ∃ W T : Nat, W ≤ 9999 ∧ T ≤ 9999 ∧ T0 ≤ T ∧ x.1 = nI W ∧ v.1 = nI W ∧ x.2.1 = nI T ∧ v.2.2.2.2.1 = nI T ∧ RowG N P W0 bk T t x v ∧ RowG N P W0 bk 0 t x v := by
  obtain ⟨h1, h2, ⟨W, E, F, T, SP, L, q, B, a1, a2, a3, a4, a5, a6, a7⟩, h4⟩ := h
  obtain ⟨b1, b2, b3, b4, -⟩ := id a1
  obtain ⟨c1, c2, -⟩ := id a2
  exact ⟨W, T, by omega, by omega, a7, b3, b4, c1, c2, ⟨h1, h2, ⟨W, E, F, T, SP, L, q, B, a1, a2, a3, a4, a5, a6, Nat.le_refl _⟩, h4⟩, ⟨h1, h2, ⟨W, E, F, T, SP, L, q, B, a1, a2, a3, a4, a5, a6, Nat.zero_le _⟩, h4⟩⟩
theorem RunG.base {N W0 T0 t : Nat} {x : Int32 × Int32 × Int32 × Int32 × (Nat → Int32) × (Nat → Int32) × (Nat → Int32)} {v : Int32 × Int32 × Int32 × Int32 × Int32 × Int32 × Int32 × Int32 × (Nat → Int32) × (Nat → Int32) × (Nat → Int32) × (Nat → Int32) × (Nat → Int32) × (Nat → Int32) × (Nat → Int32) × (Nat → Int32)} (h : RunG N W0 T0 t x v) : ∃ W T : Nat, W ≤ 9999 ∧ T ≤ 9999 ∧ T0 ≤ T ∧ x.1 = nI W ∧ v.1 = nI W ∧ x.2.1 = nI T ∧ v.2.2.2.2.1 = nI T ∧ RunG N W0 T t x v ∧ RunG N W0 0 t x v := by
  obtain ⟨h1, h2, W, T, L, a1, a2, a3, a4, a5⟩ := h
  obtain ⟨b1, b2, b3, b4, b5, b6, b7⟩ := id a1
  exact ⟨W, T, by omega, by omega, a5, b3, b4, b6, b7, ⟨h1, h2, W, T, L, a1, a2, a3, a4, Nat.le_refl _⟩, ⟨h1, h2, W, T, L, a1, a2, a3, a4, Nat.zero_le _⟩⟩
theorem RowG.pa {N P W0 bk T0 t : Nat} {x1 x2 x3 x4 x5 x6 x7 x8 : Int32} {y1 y2 y3 y4 y5 y6 y7 : Nat → Int32} {pa pa' : Nat → Nat → Int32} {v : Int32 × Int32 × Int32 × Int32 × Int32 × Int32 × Int32 × Int32 × (Nat → Int32) × (Nat → Int32) × (Nat → Int32) × (Nat → Int32) × (Nat → Int32) × (Nat → Int32) × (Nat → Int32) × (Nat → Int32)} (h : RowG N P W0 bk T0 t (x1, x2, x3, x4, x5, x6, x7, x8, y1, y2, y3, y4, y5, y6, y7, pa) v) (hp : ∀ k, k < N → pa' k = pa k) : RowG N P W0 bk T0 t (x1, x2, x3, x4, x5, x6, x7, x8, y1, y2, y3, y4, y5, y6, y7, pa') v := by
  obtain ⟨h1, h2, ⟨W, E, F, T, SP, L, q, B, a1, a2, a3, a4, a5, a6, a7⟩, h4⟩ := h
  refine ⟨h1, h2, ⟨W, E, F, T, SP, L, q, B, a1, a2, fun k hk => ?_, a4, a5, a6, a7⟩, h4⟩
  have := a3 k hk
  dsimp only at this ⊢
  rw [hp k hk]
  exact this
/-- the team at hand: none, the night's row, those who run in it -/
def TeamR (z y M bk m : Nat) (tm : Option Nat) (I : gI) (X : gX) (A : gI) (Wt : Nat) (many kind : Int32) (team : Nat → Int32) (v : Int32 × Int32 × Int32 × Int32 × Int32 × Int32 × Int32 × Int32 × (Nat → Int32) × (Nat → Int32) × (Nat → Int32) × (Nat → Int32) × (Nat → Int32) × (Nat → Int32) × (Nat → Int32) × (Nat → Int32)) : Prop :=
  Wt ≤ 9999 ∧ v.1 = nI Wt ∧ ((tm = none ∧ kind = 0) ∨
    (tm = some (z + 38) ∧ kind = 1 ∧ ∃ N P W1 t : Nat, 2 ≤ N ∧ N ≤ 12 ∧ P ≤ 30 ∧ t ≤ 60 * m ∧ many = nI N ∧ X 701 (z + 38) = some y ∧ I 702 (z + 38) = nI N ∧ (∀ k, k < N → ∃ q, q < M ∧ A (z + 39) k = nI q ∧ team k = nI q) ∧
      RowG N P W1 bk 0 t (I 703 (z + 38), I 704 (z + 38), I 705 (z + 38), I 714 (z + 38), I 715 (z + 38), I 716 (z + 38), I 717 (z + 38), I 718 (z + 38), A (z + 40), A (z + 41), A (z + 42), A (z + 43), A (z + 44), A (z + 45), A (z + 59), fun j => A (z + 47 + j)) v) ∨
    (tm = some (z + 65) ∧ kind = 2 ∧ ∃ N W1 t : Nat, N ≤ 12 ∧ t ≤ 60 * m ∧ many = nI N ∧ X 801 (z + 65) = some y ∧ I 802 (z + 65) = nI N ∧ (∀ k, k < N → ∃ q, q < M ∧ A (z + 66) k = nI q ∧ team k = nI q) ∧
      RunG N W1 0 t (I 803 (z + 65), I 804 (z + 65), I 805 (z + 65), I 809 (z + 65), A (z + 67), A (z + 68), A (z + 69)) v))
theorem TeamR.fr {z y M bk m : Nat} {tm : Option Nat} {I I' : gI} {X X' : gX} {A A' : gI} {Wt : Nat} {many kind : Int32} {team : Nat → Int32} {v : Int32 × Int32 × Int32 × Int32 × Int32 × Int32 × Int32 × Int32 × (Nat → Int32) × (Nat → Int32) × (Nat → Int32) × (Nat → Int32) × (Nat → Int32) × (Nat → Int32) × (Nat → Int32) × (Nat → Int32)} (h : TeamR z y M bk m tm I X A Wt many kind team v) (hI : ∀ f, I' f (z + 38) = I f (z + 38) ∧ I' f (z + 65) = I f (z + 65)) (hX : X' 701 (z + 38) = X 701 (z + 38) ∧ X' 801 (z + 65) = X 801 (z + 65)) (hA : ∀ k, 38 ≤ k → k < 70 → A' (z + k) = A (z + k)) : TeamR z y M bk m tm I' X' A' Wt many kind team v := by
  obtain ⟨h0, h1, h⟩ := h
  refine ⟨h0, h1, ?_⟩
  rcases h with h | ⟨a1, a2, N, P, W1, t, b1, b2, b3, b4, b5, b6, b7, b8, b9⟩ | ⟨a1, a2, N, W1, t, b1, b2, b3, b4, b5, b6, b7⟩
  · exact Or.inl h
  · refine Or.inr (Or.inl ⟨a1, a2, N, P, W1, t, b1, b2, b3, b4, b5, hX.1.trans b6, (hI _).1.trans b7, ?_, ?_⟩)
    · rw [hA 39 (by decide) (by decide)]
      exact b8
    · rw [(hI 703).1, (hI 704).1, (hI 705).1, (hI 714).1, (hI 715).1, (hI 716).1, (hI 717).1, (hI 718).1, hA 40 (by decide) (by decide), hA 41 (by decide) (by decide), hA 42 (by decide) (by decide), hA 43 (by decide) (by decide), hA 44 (by decide) (by decide), hA 45 (by decide) (by decide), hA 59 (by decide) (by decide)]
      refine b9.pa (fun k hk => ?_)
      rw [Nat.add_assoc]
      exact hA (47 + k) (by omega) (by omega)
  · refine Or.inr (Or.inr ⟨a1, a2, N, W1, t, b1, b2, b3, hX.2.trans b4, (hI _).2.trans b5, ?_, ?_⟩)
    · rw [hA 66 (by decide) (by decide)]
      exact b6
    · rw [(hI 803).2, (hI 804).2, (hI 805).2, (hI 809).2, hA 67 (by decide) (by decide), hA 68 (by decide) (by decide), hA 69 (by decide) (by decide)]
      exact b7
/-- nobody throws -/
theorem nobody_tick {many : Int32} {w team : Nat → Int32} {v : Int32 × Int32 × Int32 × Int32 × Int32 × Int32 × Int32 × Int32 × (Nat → Int32) × (Nat → Int32) × (Nat → Int32) × (Nat → Int32) × (Nat → Int32) × (Nat → Int32) × (Nat → Int32) × (Nat → Int32)} : f14_teamTick many 0 v.1 v.2.1 v.2.2.1 v.2.2.2.1 v.2.2.2.2.1 v.2.2.2.2.2.1 v.2.2.2.2.2.2.1 v.2.2.2.2.2.2.2.1 w team v.2.2.2.2.2.2.2.2.1 v.2.2.2.2.2.2.2.2.2.1 v.2.2.2.2.2.2.2.2.2.2.1 v.2.2.2.2.2.2.2.2.2.2.2.1 v.2.2.2.2.2.2.2.2.2.2.2.2.1 v.2.2.2.2.2.2.2.2.2.2.2.2.2.1 v.2.2.2.2.2.2.2.2.2.2.2.2.2.2.1 v.2.2.2.2.2.2.2.2.2.2.2.2.2.2.2 = some (v.1, v.2.1 + 1, v.2.2.1, v.2.2.2.1, v.2.2.2.2.1, v.2.2.2.2.2.1, v.2.2.2.2.2.2.1, v.2.2.2.2.2.2.2.1, v.2.2.2.2.2.2.2.2.1, v.2.2.2.2.2.2.2.2.2.1, v.2.2.2.2.2.2.2.2.2.2.1, v.2.2.2.2.2.2.2.2.2.2.2.1, v.2.2.2.2.2.2.2.2.2.2.2.2.1, v.2.2.2.2.2.2.2.2.2.2.2.2.2.1, v.2.2.2.2.2.2.2.2.2.2.2.2.2.2.1, v.2.2.2.2.2.2.2.2.2.2.2.2.2.2.2) := by
  unfold f14_teamTick f14_teamTick_j22
  rfl
