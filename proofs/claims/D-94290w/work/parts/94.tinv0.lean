/-! the invariant at the start -/
set_option maxRecDepth 100000
theorem kept0 {N : Nat} {a b : Nat → Int32} {m1 m14 : Int32} (e1 : m1 = 0) (e2 : m14 = 0) : pKept N m1 m14 a b := ⟨0, Nat.zero_le _, e1, e2, fun i h => absurd h (Nat.not_lt_zero _)⟩
theorem told00 (z : Nat) (adS : Nat → Nat) : Told z (K00 z) (I00 z) (J00 z) (X00 z) (A00 z) (B00 z) (Q00 z adS) (layF (I00 z 1122 (z + 126)) (A00 z (z + 128))) := by
  have hb : I00 z 1122 (z + 126) = 0 := I00_14 (i := 0) (by decide)
  have hw : ∀ i, A00 z (z + 128) i = 0 := fun i => by
    rw [A00_14 (z := z) (i := 2) (by decide)]
    rfl
  have hsh : Sh (K00 z) (X00 z) (z + 8) 3 rows3 := Sh_00 (by decide) rfl (by simp only [rows3, List.forall_mem_cons]; (repeat' apply And.intro); all_goals first | exact fun _ h => absurd h (List.not_mem_nil) | rfl | decide)
  have hmen : Q00 z adS (z + 8 + 1) = z2 := by
    rw [Nat.add_assoc, Q00_1 (by decide)]
    rfl
  have hA : ∀ i, i < 126 → A00 z (z + i) = z0 := fun i hi => A00_1 hi
  have hg : ∀ f, I00 z f (z + 8) = (lkf LI_i1 f 8).getD 0 := fun f => I00_1 (by decide)
  have h800 : ∀ i, 200 ≤ i → i < 800 → layF (I00 z 1122 (z + 126)) (A00 z (z + 128)) i = 0 := fun i h1 h2 => by
    rw [hb]
    unfold layF stdF
    rw [if_pos rfl, if_neg (by omega)]
    exact hw i
  refine ToldS.t (S := fun _ => False) ⟨fun a h => h.elim, fun _ _ _ _ _ _ h => h, ⟨z + 8, 0, 0, 0, 6, ⟨X00_1 (i := 7) (by decide) rfl, fun d hd => Or.inl (by omega), hsh, fun j m h => ?_, ?_⟩, fun m h => absurd h (Nat.not_lt_zero _), ⟨z + 12, 0, X00_1 (i := 7) (by decide) rfl, Or.inl (by omega), Or.inl (by omega), K00_1 (by decide) rfl, K00_1 (i := 13) (by decide) rfl, X00_1 (by decide) rfl, (I00_1 (by decide)).trans rfl, by decide, h800 200 (by decide) (by decide), fun k h => absurd h (Nat.not_lt_zero _)⟩, Or.inl ⟨by unfold X00 bm; rw [if_neg (by omega), if_pos (by omega), Nat.add_sub_cancel_left]; rfl, h800 540 (by decide) (by decide)⟩⟩, fun s h => ?_, fun k hk => Or.inl ⟨?_, ?_⟩⟩
  · rw [hmen] at h
    exact nomatch h
  · rw [hb, Nat.add_assoc, Nat.add_assoc, hA (8 + 2) (by decide), hA (8 + 3) (by decide)]
    have hl : ∀ k, k < 200 → layF 0 (A00 z (z + 128)) k = stdv k := fun k hk => by
      unfold layF stdF
      rw [if_pos rfl]
      exact if_pos hk
    refine ⟨by decide, ?_, ?_, ?_, fun m hm => absurd hm (Nat.not_lt_zero _), fun r c hr hc => Or.inr ⟨fun h => absurd h.1 (Nat.not_lt_zero _), rfl, rfl⟩⟩
    · exact ⟨(hg 303).trans rfl, (hl 0 (by decide)).trans (by decide), (hg 304).trans rfl, (hl 9 (by decide)).trans (by decide), (hg 305).trans rfl, (hl 10 (by decide)).trans (by decide), (hg 307).trans rfl, (hl 2 (by decide)).trans (by decide)⟩
    · exact ⟨⟨30, by decide, by decide, (hg 306).trans rfl, (hl 1 (by decide)).trans (by decide)⟩, ⟨8, by decide, by decide, (hg 308).trans rfl, (hl 3 (by decide)).trans (by decide)⟩, ⟨5, by decide, by decide, (hg 309).trans rfl, (hl 4 (by decide)).trans (by decide)⟩, ⟨9999, by decide, by decide, (hg 310).trans rfl, (hl 5 (by decide)).trans (by decide)⟩, ⟨0, by decide, by decide, (hg 311).trans rfl, (hl 6 (by decide)).trans (by decide)⟩, ⟨20, by decide, by decide, (hg 312).trans rfl, (hl 7 (by decide)).trans (by decide)⟩, ⟨2, by decide, by decide, (hg 313).trans rfl, (hl 8 (by decide)).trans (by decide)⟩⟩
    · exact ⟨((hg 314).trans rfl).trans ((hl 11 (by decide)).trans (by decide)).symm, Or.inl ((hg 314).trans rfl)⟩
  · rw [Q00_1 (by decide)] at h
    exact nomatch h
  · rw [Q00_1 (by decide)]
    rfl
  · rw [show z + 135 = z + 126 + 9 from rfl, A00_14 (by decide)]
    rfl
theorem Inv00 (z : Nat) (adS : Nat → Nat) : Inv adS z (K00 z) (I00 z) (J00 z) (X00 z) (A00 z) (B00 z) (Q00 z adS) (z + 172) := by
  have hI : ∀ f, lkf LI_i1 f 0 = none → I00 z f z = 0 := fun f h => (I00_1 (z := z) (f := f) (i := 0) (by decide)).trans (by rw [h]; rfl)
  have hI14 : ∀ f, lkf LI_i14 f 0 = none → I00 z f (z + 126) = 0 := fun f h => (I00_14 (z := z) (f := f) (i := 0) (by decide)).trans (by rw [h]; rfl)
  refine ⟨fresh03 z, IS00 z adS, Or.inl (hI14 _ rfl), told00 z adS, ?_, ?_, ?_, ?_, ?_, ?_, ?_, ?_, ?_, StrQ00 z adS, ⟨(I00_1 (by decide)).trans rfl, (I00_1 (by decide)).trans rfl, (I00_1 (by decide)).trans rfl⟩, Or.inl ⟨hI _ rfl, hI14 _ rfl⟩⟩
  · refine ⟨0, fun _ => 0, Nat.zero_le _, hI _ rfl, hI14 _ rfl, fun i hi => ?_⟩
    have e1 : A00 z (z + 1) = z0 := A00_1 (by decide)
    have e2 : A00 z (z + 127) = z0 := (A00_14 (z := z) (i := 1) (by decide)).trans rfl
    rw [e1, e2]
    show (0 : Nat) < 256 ∧ (0 : Int32) = nI 0 ∧ (0 : Int32) = (nI 0).toInt8.toInt32
    decide
  · rw [hI _ rfl, hI14 _ rfl]
  · refine Or.inl ⟨hI _ rfl, fun i hi => ?_⟩
    rw [show z + 145 = z + 126 + 19 from rfl, A00_14 (by decide)]
    rcases (show i = 0 ∨ i = 1 ∨ i = 2 ∨ i = 3 ∨ i = 4 ∨ i = 5 by omega) with rfl | rfl | rfl | rfl | rfl | rfl <;> decide
  · exact kept0 (hI _ rfl) (hI14 _ rfl)
  · exact kept0 (hI _ rfl) (hI14 _ rfl)
  · exact kept0 (hI _ rfl) (hI14 _ rfl)
  · exact kept0 (hI _ rfl) (hI14 _ rfl)
  · exact kept0 (hI _ rfl) (hI14 _ rfl)
  · exact Or.inl ⟨hI _ rfl, (I00_14 (i := 0) (by decide)).trans rfl⟩
