/-! the maps at the start of the script -/
set_option maxRecDepth 100000
noncomputable def K00 (z : Nat) : gK := a_up (bK (bK (fun _ => none) z KS_i1) (z + 126) KS_i14) (z + 171) (some (.inr (3, 1)))
noncomputable def I00 (z : Nat) : gI := bm 0 (bm 0 (fun _ _ => 0) z 126 LI_i1) (z + 126) 45 LI_i14
noncomputable def J00 (z : Nat) : gJ := bm 0 (bm 0 (fun _ _ => 0) z 126 LJ_i1) (z + 126) 45 LJ_i14
noncomputable def X00 (z : Nat) : gX := bm none (bm none (fun _ _ => none) z 126 (LX_i1 z)) (z + 126) 45 (LX_i14 (z + 126))
noncomputable def A00 (z : Nat) : gI := ba z0 (ba z0 (fun _ _ => 0) z 126 LA_i1) (z + 126) 45 LA_i14
noncomputable def B00 (z : Nat) : gJ := a_up (ba z1 (ba z1 (fun _ _ => 0) z 126 []) (z + 126) 45 []) (z + 171) (fun _ => 0)
noncomputable def Q00 (z : Nat) (adS : Nat → Nat) : gX := ba z2 (ba z2 (fun _ _ => none) z 126 (LQ1 adS z)) (z + 126) 45 []
theorem K00_1 {z i : Nat} {κ : Nat ⊕ (Nat × Nat)} (hi : i < 126) (h : KS_i1[i]? = some κ) : K00 z (z + i) = some κ := by
  unfold K00 a_up
  rw [if_neg (by omega), bK_lt (by omega), bK_at h]
theorem K00_14 {z i : Nat} {κ : Nat ⊕ (Nat × Nat)} (hi : i < 45) (h : KS_i14[i]? = some κ) : K00 z (z + 126 + i) = some κ := by
  unfold K00 a_up
  rw [if_neg (by omega), bK_at h]
theorem X00_1 {z f i : Nat} {v : Option Nat} (hi : i < 126) (h : lkf (LX_i1 z) f i = some v) : X00 z f (z + i) = v := by
  unfold X00 bm
  rw [if_neg (by omega), if_pos (by omega), Nat.add_sub_cancel_left, h]
  rfl
theorem X00_14 {z f i : Nat} {v : Option Nat} (hi : i < 45) (h : lkf (LX_i14 (z + 126)) f i = some v) : X00 z f (z + 126 + i) = v := by
  unfold X00 bm
  rw [if_pos (by omega), Nat.add_sub_cancel_left, h]
  rfl
theorem I00_1 {z f i : Nat} (hi : i < 126) : I00 z f (z + i) = (lkf LI_i1 f i).getD 0 := by
  unfold I00 bm
  rw [if_neg (by omega), if_pos (by omega), Nat.add_sub_cancel_left]
theorem I00_14 {z f i : Nat} (hi : i < 45) : I00 z f (z + 126 + i) = (lkf LI_i14 f i).getD 0 := by
  unfold I00
  unfold bm
  rw [if_pos (by omega), Nat.add_sub_cancel_left]
theorem A00_1 {z i : Nat} (hi : i < 126) : A00 z (z + i) = z0 := by
  unfold A00 ba
  rw [if_neg (by omega), if_pos (by omega), Nat.add_sub_cancel_left]
  rfl
theorem A00_14 {z i : Nat} (hi : i < 45) : A00 z (z + 126 + i) = (lka LA_i14 i).getD z0 := by
  unfold A00
  unfold ba
  rw [if_pos (by omega), Nat.add_sub_cancel_left]
theorem Q00_1 {z i : Nat} {adS : Nat → Nat} (hi : i < 126) : Q00 z adS (z + i) = (lka (LQ1 adS z) i).getD z2 := by
  unfold Q00 ba
  rw [if_neg (by omega), if_pos (by omega), Nat.add_sub_cancel_left]
theorem fresh00 (z : Nat) : freshz z (fun _ => none) z := ⟨Nat.le_refl _, fun _ _ => rfl, fun a h1 h2 => by omega⟩
theorem fresh01 (z : Nat) : freshz z (bK (fun _ => none) z KS_i1) (z + 126) := freshz_bK (l := KS_i1) (fresh00 z)
theorem fresh02 (z : Nat) : freshz z (bK (bK (fun _ => none) z KS_i1) (z + 126) KS_i14) (z + 171) := freshz_bK (l := KS_i14) (fresh01 z)
theorem fresh03 (z : Nat) : freshz z (K00 z) (z + 172) := (fresh02 z).new (v := .inr (3, 1))
theorem Sh_00 {z b ci : Nat} {rows : List (Nat × Nat × Nat × Nat)} (hb : b < 126) (h0 : KS_i1[b]? = some (.inl ci)) (h : ∀ q ∈ rows, b + q.2.1 < 126 ∧ KS_i1[b + q.2.1]? = some (.inr (q.2.2.1, q.2.2.2)) ∧ lkf (LX_i1 z) q.1 b = some (some (z + (b + q.2.1)))) : Sh (K00 z) (X00 z) (z + b) ci rows := by
  refine ⟨K00_1 hb h0, fun k q hq => ?_⟩
  obtain ⟨a1, a2, a3⟩ := h q (List.mem_of_getElem? hq)
  rw [Nat.add_assoc]
  exact ⟨K00_1 a1 a2, X00_1 hb a3⟩
theorem Sh_14 {z : Nat} (h : ∀ q ∈ rows11, q.2.1 < 45 ∧ KS_i14[q.2.1]? = some (.inr (q.2.2.1, q.2.2.2)) ∧ lkf (LX_i14 (z + 126)) q.1 0 = some (some (z + 126 + q.2.1))) : Sh (K00 z) (X00 z) (z + 126) 11 rows11 := by
  refine ⟨K00_14 (i := 0) (by decide) rfl, fun k q hq => ?_⟩
  obtain ⟨a1, a2, a3⟩ := h q (List.mem_of_getElem? hq)
  exact ⟨K00_14 a1 a2, X00_14 (i := 0) (by decide) a3⟩
theorem K00_yard {z y : Nat} (h : K00 z y = some (.inl 3)) : y = z + 8 := by
  by_cases q1 : y < z
  · exfalso
    unfold K00 a_up at h
    rw [if_neg (by omega), bK_lt (by omega), bK_lt (by omega)] at h
    exact nomatch h
  · by_cases q2 : y < z + 126
    · obtain ⟨i, rfl⟩ : ∃ i, y = z + i := ⟨y - z, by omega⟩
      have hi : i < 126 := by omega
      have h2 : KS_i1[i]? = some (.inl 3) := by
        have hl : i < KS_i1.length := hi
        have := K00_1 (z := z) hi (List.getElem?_eq_getElem hl)
        rw [this] at h
        rw [List.getElem?_eq_getElem hl]
        exact h
      have hd : ∀ i : Fin 126, KS_i1[i.val]? = some (.inl 3) → i.val = 8 := by decide +kernel
      have := hd ⟨i, hi⟩ h2
      dsimp only at this
      omega
    · exfalso
      by_cases q3 : y < z + 171
      · obtain ⟨i, rfl⟩ : ∃ i, y = z + 126 + i := ⟨y - (z + 126), by omega⟩
        have hi : i < 45 := by omega
        have h2 : KS_i14[i]? = some (.inl 3) := by
          have hl : i < KS_i14.length := hi
          have := K00_14 (z := z) hi (List.getElem?_eq_getElem hl)
          rw [this] at h
          rw [List.getElem?_eq_getElem hl]
          exact h
        have hd : ∀ i : Fin 45, ¬ KS_i14[i.val]? = some (.inl 3) := by decide +kernel
        exact hd ⟨i, hi⟩ h2
      · by_cases q4 : y = z + 171
        · rw [q4] at h
          have e : K00 z (z + 171) = some (.inr (3, 1)) := by
            unfold K00 a_up
            exact if_pos rfl
          rw [e] at h
          exact nomatch (Option.some.inj h)
        · have := (fresh03 z).2.1 y (by omega)
          rw [this] at h
          exact nomatch h
theorem Sh3_00 (z : Nat) : Sh (K00 z) (X00 z) (z + 8) 3 rows3 := Sh_00 (by decide) rfl (by simp only [rows3, List.forall_mem_cons]; (repeat' apply And.intro); all_goals first | exact fun _ h => absurd h (List.not_mem_nil) | rfl | decide)
theorem ISx00 (z : Nat) (adS : Nat → Nat) : ISx z (K00 z) (X00 z) (Q00 z adS) := by
  have q90 : ∀ j, Q00 z adS (z + 90) j = none := fun j => by
    rw [Q00_1 (by decide)]
    rfl
  refine ⟨⟨K00_1 (by decide) rfl, X00_1 (i := 0) (by decide) rfl⟩, ⟨K00_1 (by decide) rfl, X00_1 (i := 0) (by decide) rfl, X00_1 (by decide) rfl, X00_1 (by decide) rfl⟩, ⟨K00_1 (by decide) rfl, X00_1 (i := 0) (by decide) rfl, X00_1 (by decide) rfl, X00_1 (by decide) rfl⟩, ⟨?_, X00_1 (i := 0) (by decide) rfl, X00_1 (by decide) rfl, X00_1 (by decide) rfl⟩, ⟨?_, X00_1 (i := 0) (by decide) rfl⟩, ⟨?_, X00_1 (i := 0) (by decide) rfl⟩, ⟨?_, X00_1 (i := 0) (by decide) rfl⟩, ⟨?_, X00_1 (i := 0) (by decide) rfl⟩, fun j hj => ⟨?_, ?_⟩, fun y hy => ?_, fun j s hj hs => ?_, fun i j s hi hj hs => ?_⟩
  · exact Sh_00 (by decide) rfl (by simp only [rows10, List.forall_mem_cons]; (repeat' apply And.intro); all_goals first | exact fun _ h => absurd h (List.not_mem_nil) | rfl | decide)
  · exact Sh_00 (by decide) rfl (by simp only [rows9, List.forall_mem_cons]; (repeat' apply And.intro); all_goals first | exact fun _ h => absurd h (List.not_mem_nil) | rfl | decide)
  · exact Sh_00 (by decide) rfl (by simp only [rows9, List.forall_mem_cons]; (repeat' apply And.intro); all_goals first | exact fun _ h => absurd h (List.not_mem_nil) | rfl | decide)
  · exact Sh_00 (by decide) rfl (by simp only [rows7, List.forall_mem_cons]; (repeat' apply And.intro); all_goals first | exact fun _ h => absurd h (List.not_mem_nil) | rfl | decide)
  · exact Sh_00 (by decide) rfl (by simp only [rows8, List.forall_mem_cons]; (repeat' apply And.intro); all_goals first | exact fun _ h => absurd h (List.not_mem_nil) | rfl | decide)
  · rw [Nat.add_assoc]
    refine K00_1 (by omega) ?_
    have h : ∀ j, j < 12 → KS_i1[47 + j]? = some (.inr (0, 30)) := by decide
    exact h j hj
  · rw [Q00_1 (by decide)]
    rcases (show j = 0 ∨ j = 1 ∨ j = 2 ∨ j = 3 ∨ j = 4 ∨ j = 5 ∨ j = 6 ∨ j = 7 ∨ j = 8 ∨ j = 9 ∨ j = 10 ∨ j = 11 by omega) with rfl | rfl | rfl | rfl | rfl | rfl | rfl | rfl | rfl | rfl | rfl | rfl <;> rfl
  · rw [K00_yard hy]
    exact Sh3_00 z
  · rw [q90] at hs
    exact nomatch hs
  · rw [q90] at hs
    exact nomatch hs
theorem StrQ00 (z : Nat) (adS : Nat → Nat) : StrQ adS z (Q00 z adS) := by
  refine ⟨fun j hj => ?_, fun j hj => ?_, fun j hj => ?_, fun j hj => ?_, fun j hj => ?_⟩
  · rw [Q00_1 (by decide)]
    rcases (show j = 0 ∨ j = 1 ∨ j = 2 ∨ j = 3 ∨ j = 4 ∨ j = 5 ∨ j = 6 ∨ j = 7 ∨ j = 8 ∨ j = 9 by omega) with rfl | rfl | rfl | rfl | rfl | rfl | rfl | rfl | rfl | rfl <;> rfl
  · rw [Q00_1 (by decide)]
    rcases (show j = 0 ∨ j = 1 ∨ j = 2 ∨ j = 3 by omega) with rfl | rfl | rfl | rfl <;> rfl
  · rw [Q00_1 (by decide)]
    rcases (show j = 0 ∨ j = 1 ∨ j = 2 ∨ j = 3 ∨ j = 4 by omega) with rfl | rfl | rfl | rfl | rfl <;> rfl
  · rw [Q00_1 (by decide)]
    rcases (show j = 0 ∨ j = 1 ∨ j = 2 ∨ j = 3 ∨ j = 4 ∨ j = 5 ∨ j = 6 ∨ j = 7 ∨ j = 8 ∨ j = 9 by omega) with rfl | rfl | rfl | rfl | rfl | rfl | rfl | rfl | rfl | rfl <;> rfl
  · rw [Q00_1 (by decide)]
    rcases (show j = 0 ∨ j = 1 ∨ j = 2 ∨ j = 3 ∨ j = 4 by omega) with rfl | rfl | rfl | rfl | rfl <;> rfl
theorem IS00 (z : Nat) (adS : Nat → Nat) : IS z (K00 z) (X00 z) (Q00 z adS) := by
  have a0 : Sh (K00 z) (X00 z) z 0 rows0 := Sh_00 (b := 0) (by decide) rfl (by simp only [rows0, List.forall_mem_cons]; (repeat' apply And.intro); all_goals first | exact fun _ h => absurd h (List.not_mem_nil) | rfl | decide)
  have a11 : Sh (K00 z) (X00 z) (z + 126) 11 rows11 := Sh_14 (by simp only [rows11, List.forall_mem_cons]; (repeat' apply And.intro); all_goals first | exact fun _ h => absurd h (List.not_mem_nil) | rfl | decide)
  have a16 : Sh (K00 z) (X00 z) (z + 16) 7 rows7 := Sh_00 (by decide) rfl (by simp only [rows7, List.forall_mem_cons]; (repeat' apply And.intro); all_goals first | exact fun _ h => absurd h (List.not_mem_nil) | rfl | decide)
  have a60 : Sh (K00 z) (X00 z) (z + 60) 8 rows8 := Sh_00 (by decide) rfl (by simp only [rows8, List.forall_mem_cons]; (repeat' apply And.intro); all_goals first | exact fun _ h => absurd h (List.not_mem_nil) | rfl | decide)
  have a85 : Sh (K00 z) (X00 z) (z + 85) 9 rows9 := Sh_00 (by decide) rfl (by simp only [rows9, List.forall_mem_cons]; (repeat' apply And.intro); all_goals first | exact fun _ h => absurd h (List.not_mem_nil) | rfl | decide)
  have a92 : Sh (K00 z) (X00 z) (z + 92) 9 rows9 := Sh_00 (by decide) rfl (by simp only [rows9, List.forall_mem_cons]; (repeat' apply And.intro); all_goals first | exact fun _ h => absurd h (List.not_mem_nil) | rfl | decide)
  have a97 : Sh (K00 z) (X00 z) (z + 97) 9 rows9 := Sh_00 (by decide) rfl (by simp only [rows9, List.forall_mem_cons]; (repeat' apply And.intro); all_goals first | exact fun _ h => absurd h (List.not_mem_nil) | rfl | decide)
  have a102 : Sh (K00 z) (X00 z) (z + 102) 9 rows9 := Sh_00 (by decide) rfl (by simp only [rows9, List.forall_mem_cons]; (repeat' apply And.intro); all_goals first | exact fun _ h => absurd h (List.not_mem_nil) | rfl | decide)
  have a107 : Sh (K00 z) (X00 z) (z + 107) 9 rows9 := Sh_00 (by decide) rfl (by simp only [rows9, List.forall_mem_cons]; (repeat' apply And.intro); all_goals first | exact fun _ h => absurd h (List.not_mem_nil) | rfl | decide)
  refine ⟨⟨a0, a11, ?_⟩, ⟨K00_1 (by decide) rfl, X00_1 (i := 0) (by decide) rfl⟩, ⟨a16, X00_1 (i := 0) (by decide) rfl⟩, ⟨a60, X00_1 (i := 0) (by decide) rfl⟩, ⟨a85, X00_1 (i := 0) (by decide) rfl⟩, ⟨⟨a92, a97, a102, a107⟩, ?_⟩, fun j hj => ⟨?_, ?_⟩, ISx00 z adS⟩
  · unfold K00 a_up
    exact if_pos rfl
  · rw [Q00_1 (by decide)]
    exact ⟨rfl, rfl, rfl, rfl⟩
  · rw [Nat.add_assoc]
    refine K00_1 (by omega) ?_
    have h : ∀ j, j < 12 → KS_i1[25 + j]? = some (.inr (0, 30)) := by decide
    exact h j hj
  · rw [Q00_1 (by decide)]
    rcases (show j = 0 ∨ j = 1 ∨ j = 2 ∨ j = 3 ∨ j = 4 ∨ j = 5 ∨ j = 6 ∨ j = 7 ∨ j = 8 ∨ j = 9 ∨ j = 10 ∨ j = 11 by omega) with rfl | rfl | rfl | rfl | rfl | rfl | rfl | rfl | rfl | rfl | rfl | rfl <;> rfl
