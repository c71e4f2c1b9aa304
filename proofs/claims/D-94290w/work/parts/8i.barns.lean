/-! barns: those of the minutes ahead; what may change of them -/
set_option maxRecDepth 100000
/-- the last fire forgotten -/
def rsf (z : Nat) (I : gI) : gI := ov I [(38, z, 0), (1176, z + 126, 0), (1175, z + 126, -1)]
theorem rsf_at {z : Nat} {I : gI} {f a : Nat} (h : ¬ (f = 38 ∧ a = z)) (h1 : ¬ (f = 1176 ∧ a = z + 126)) (h2 : ¬ (f = 1175 ∧ a = z + 126)) : rsf z I f a = I f a := by
  unfold rsf
  refine ov_fr (fun p hp e e2 => ?_)
  simp only [List.mem_cons, List.not_mem_nil, or_false] at hp
  rcases hp with rfl | rfl | rfl
  · exact absurd ⟨e2.symm, e.symm⟩ h
  · exact absurd ⟨e2.symm, e.symm⟩ h1
  · exact absurd ⟨e2.symm, e.symm⟩ h2
theorem Inv.rset {adS : Nat → Nat} {z n : Nat} {K : gK} {I : gI} {J : gJ} {X : gX} {A : gI} {B : gJ} {Q : gX} (hi : Inv adS z K I J X A B Q n) : Inv adS z K (rsf z I) J X A B Q n := by
  obtain ⟨hfresh, hIS, hbegun, htold, htape, hfault, hrowby, hdone, hbest, hmore, hhooks, haims, hout, hstrs, hmost, hfire⟩ := hi
  have hS0 := hIS.1.1
  have hS11 := hIS.1.2.1
  have hKz := hS0.1
  unfold rsf
  exact ⟨hfresh, hIS, (by simpa [ov, ova, i_up, a_up] using hbegun), (((htold).putO (by simp only [List.forall_mem_cons]; (repeat' apply And.intro); all_goals first | exact (by unfold Lo; omega) | exact Or.inr rfl | exact Or.inl (by unfold Lo; omega) | exact (by decide) | exact fun _ h => absurd h (List.not_mem_nil))).w (by simp [ov, i_up])), (by simpa [ov, ova, i_up, a_up] using htape), (by simpa [ov, ova, i_up, a_up] using hfault), (by simpa [ov, ova, i_up, a_up] using hrowby), (by simpa [ov, ova, i_up, a_up] using hdone), (by simpa [ov, ova, i_up, a_up] using hbest), (by simpa [ov, ova, i_up, a_up] using hmore), (by simpa [ov, ova, i_up, a_up] using hhooks), (by simpa [ov, ova, i_up, a_up] using haims), Or.inl ⟨by simp [ov, i_up], by simp [ov, i_up]⟩, hstrs, (by simpa [ov, ova, i_up, a_up] using hmost), Or.inl ⟨by simp [ov, i_up], by simp [ov, i_up]⟩⟩
theorem rsf_back {z : Nat} {I : gI} : ov (rsf z I) [(38, z, I 38 z), (1176, z + 126, I 1176 (z + 126)), (1175, z + 126, I 1175 (z + 126))] = I := by
  funext f a
  by_cases h : f = 38 ∧ a = z
  · obtain ⟨rfl, rfl⟩ := h
    simp [ov, i_up]
  · by_cases h1 : f = 1176 ∧ a = z + 126
    · obtain ⟨rfl, rfl⟩ := h1
      simp [ov, i_up]
    · by_cases h2 : f = 1175 ∧ a = z + 126
      · obtain ⟨rfl, rfl⟩ := h2
        simp [ov, i_up]
      · rw [← rsf_at (I := I) h h1 h2]
        refine ov_fr (fun p hp e e2 => ?_)
        simp only [List.mem_cons, List.not_mem_nil, or_false] at hp
        rcases hp with rfl | rfl | rfl
        · exact absurd ⟨e2.symm, e.symm⟩ h
        · exact absurd ⟨e2.symm, e.symm⟩ h1
        · exact absurd ⟨e2.symm, e.symm⟩ h2
theorem Inv.unrs {adS : Nat → Nat} {z n : Nat} {K : gK} {I : gI} {J : gJ} {X : gX} {A : gI} {B : gJ} {Q : gX} (hi : Inv adS z K (rsf z I) J X A B Q n) (ho : pOut (I 38 z) (I 39 z) (I 1175 (z + 126))) (hf : pFire K (I 304) (I 305) (I 38 z) (X 904 (z + 80)) (A (z + 81)) (A (z + 82)) (A (z + 84)) (I 1176 (z + 126)) (I 1173 (z + 126)) (I 1174 (z + 126)) (A (z + 164))) : Inv adS z K I J X A B Q n := by
  obtain ⟨hfresh, hIS, hbegun, htold, htape, hfault, hrowby, hdone, hbest, hmore, hhooks, haims, hout, hstrs, hmost, hfire⟩ := hi
  have hS0 := hIS.1.1
  have hS11 := hIS.1.2.1
  have hKz := hS0.1
  have ht : Told z K I J X A B Q (layF (I 1122 (z + 126)) (A (z + 128))) := by
    have h := (htold.putO (l := [(38, z, I 38 z), (1176, z + 126, I 1176 (z + 126)), (1175, z + 126, I 1175 (z + 126))]) (by simp only [List.forall_mem_cons]; (repeat' apply And.intro); all_goals first | exact (by unfold Lo; omega) | exact Or.inr rfl | exact Or.inl (by unfold Lo; omega) | exact (by decide) | exact fun _ h => absurd h (List.not_mem_nil)))
    rw [rsf_back] at h
    exact h.w (by unfold rsf; simp [ov, i_up])
  have e : ∀ f, f ≠ 38 → f ≠ 1176 → f ≠ 1175 → rsf z I f = I f := fun f h1 h2 h3 => funext fun a => rsf_at (fun h => h1 h.1) (fun h => h2 h.1) (fun h => h3 h.1)
  simp (disch := decide) only [e] at hbegun htape hfault hrowby hdone hbest hmore hhooks haims hmost
  exact ⟨hfresh, hIS, hbegun, ht, htape, hfault, hrowby, hdone, hbest, hmore, hhooks, haims, ho, hstrs, hmost, hf⟩
def BarO (z : Nat) (Q : gX) (a : Nat) : Prop := a = z + 80 ∨ ∃ j, j < 21 ∧ Q (z + 90) j = some a
def BarA (z : Nat) (Q : gX) (a : Nat) : Prop := ∃ b, BarO z Q b ∧ b + 1 ≤ a ∧ a ≤ b + 4
theorem BarO.low {z k : Nat} {K : gK} {X : gX} {Q : gX} (hI : IS z K X Q) (h : BarO z Q (z + k)) (hk : k < 172) : k = 80 := by
  rcases h with h | ⟨j, hj, h⟩
  · omega
  · have := (hI.o.2.2.2.2.2.2.2.2.2.2.1 j _ hj h).1
    omega
theorem BarA.low {z k : Nat} {K : gK} {X : gX} {Q : gX} (hI : IS z K X Q) (h : BarA z Q (z + k)) (hk : k < 172) : 81 ≤ k ∧ k ≤ 84 := by
  obtain ⟨b, h1 | ⟨j, hj, h1⟩, h2, h3⟩ := h
  · omega
  · have := (hI.o.2.2.2.2.2.2.2.2.2.2.1 j _ hj h1).1
    omega
theorem Inv.bar {adS : Nat → Nat} {z n : Nat} {K : gK} {I I' : gI} {J : gJ} {X X' : gX} {A A' : gI} {B : gJ} {Q : gX} (hi : Inv adS z K I J X A B Q n) (h38 : I 38 z = 0) (hI : ∀ f a, ¬ (f = 905 ∧ BarO z Q a) → ¬ (f = 39 ∧ a = z) → I' f a = I f a) (hX : ∀ f a, ¬ (f = 904 ∧ BarO z Q a) → X' f a = X f a) (hA : ∀ a, ¬ BarA z Q a → A' a = A a) : Inv adS z K I' J X' A' B Q n := by
  obtain ⟨hfresh, hIS, hbegun, htold, htape, hfault, hrowby, hdone, hbest, hmore, hhooks, haims, hout, hstrs, hmost, hfire⟩ := hi
  have hS0 := hIS.1.1
  have hS11 := hIS.1.2.1
  have hKz := hS0.1
  have eI : ∀ f, f ≠ 905 → f ≠ 39 → I' f = I f := fun f h1 h2 => funext fun a => hI f a (fun h => h1 h.1) (fun h => h2 h.1)
  have eA : ∀ k, k < 172 → (k < 81 ∨ 84 < k) → A' (z + k) = A (z + k) := fun k hk h2 => hA _ fun h => by have := h.low hIS hk; omega
  have eX : ∀ f, f ≠ 904 → X' f = X f := fun f h => funext fun a => hX f a fun q => h q.1
  have hIS2 : IS z K X' Q := IS_same hIS fun f hf a _ => by
    rw [eX f (fun h => by subst h; revert hf; decide)]
  obtain ⟨S, htS⟩ := htold.ex
  have hFO : ∀ a, Fz z S a → ¬ BarO z Q a := fun a q h => by
    rcases h with h | ⟨j, hj, h⟩
    · unfold Fz at q; omega
    · have h1 := htS.2.1 j a hj h 0 (by decide)
      have h2 := (hIS.o.2.2.2.2.2.2.2.2.2.2.1 j _ hj h).1
      rcases q with q | q
      · omega
      · exact h1 q.2
  have hFA : ∀ a, Fz z S a → ¬ BarA z Q a := fun a q h => by
    obtain ⟨b, h1 | ⟨j, hj, h1⟩, h2, h3⟩ := h
    · unfold Fz at q; omega
    · have h4 := htS.2.1 j b hj h1 (a - b) (by omega)
      rw [show b + (a - b) = a by omega] at h4
      have h5 := (hIS.o.2.2.2.2.2.2.2.2.2.2.1 j _ hj h1).1
      rcases q with q | q
      · omega
      · exact h4 q.2
  have e1 : layF (I' 1122 (z + 126)) (A' (z + 128)) = layF (I 1122 (z + 126)) (A (z + 128)) := by rw [eI 1122 (by decide) (by decide), eA 128 (by decide) (by decide)]
  have ht : ToldS z S K I' J X' A' B Q (layF (I' 1122 (z + 126)) (A' (z + 128))) :=
    htS.fr (fun a q => ⟨rfl, fun f => hI f a (fun h => hFO a q h.2) (fun h => by obtain ⟨-, rfl⟩ := h; unfold Fz at q; omega), fun _ => rfl, fun f => hX f a (fun h => hFO a q h.2), hA a (hFA a q), rfl⟩) (fun _ _ => rfl) (fun i _ => by rw [e1]) (fun _ _ => rfl) (by rw [eX 200 (by decide)]) (by rw [eX 201 (by decide)]) (by rw [eX 202 (by decide)]) htS.2.1 rfl (eA 131 (by decide) (by decide)) (eA 135 (by decide) (by decide)) rfl (fun k s _ _ _ _ => ⟨rfl, by rw [eX 200 (by decide)], by rw [eX 201 (by decide)], by rw [eX 202 (by decide)]⟩)
  have ho : I 38 z = 0 ∧ I 1175 (z + 126) = -1 := by
    rcases hout with h | h
    · exact h
    · rw [h38] at h
      exact absurd h.1 (by decide)
  have hfi : I 38 z = 0 ∧ I 1176 (z + 126) = 0 := by
    rcases hfire with h | h
    · exact h
    · rw [h38] at h
      exact absurd h.1 (by decide)
  exact ⟨hfresh, hIS2, (by simpa (disch := decide) only [eI, eA] using hbegun), ht.t, (by simpa (disch := decide) only [eI, eA] using htape), (by simpa (disch := decide) only [eI, eA] using hfault), (by simpa (disch := decide) only [eI, eA] using hrowby), (by simpa (disch := decide) only [eI, eA] using hdone), (by simpa (disch := decide) only [eI, eA] using hbest), (by simpa (disch := decide) only [eI, eA] using hmore), (by simpa (disch := decide) only [eI, eA] using hhooks), (by simpa (disch := decide) only [eI, eA] using haims), Or.inl (by rw [eI 38 (by decide) (by decide), eI 1175 (by decide) (by decide)]; exact ho), hstrs, (by simpa (disch := decide) only [eI, eA] using hmost), Or.inl (by rw [eI 38 (by decide) (by decide), eI 1176 (by decide) (by decide)]; exact hfi)⟩
/-- a barn made for slot j -/
theorem Inv.newbarn {adS : Nat → Nat} {z n j : Nat} {K : gK} {I : gI} {J : gJ} {X : gX} {A : gI} {B : gJ} {Q : gX} (hi : Inv adS z K I J X A B Q n) (hj : j < 21) (hq : Q (z + 90) j = none) : Inv adS z (bK K n KS_i12) (bm 0 I n 5 LI_i12) (bm 0 J n 5 LJ_i12) (bm none X n 5 (LX_i12 n)) (ba z0 A n 5 LA_i12) (ba z1 B n 5 []) (a_up (ba z2 Q n 5 []) (z + 90) (va_up (ba z2 Q n 5 [] (z + 90)) j (some n))) (n + 5) := by
  have hag : Agree n K I J X A B Q (bK K n KS_i12) (bm 0 I n 5 LI_i12) (bm 0 J n 5 LJ_i12) (bm none X n 5 (LX_i12 n)) (ba z0 A n 5 LA_i12) (ba z1 B n 5 []) (ba z2 Q n 5 []) := Agree.blk
  have hi0 := hi
  obtain ⟨hf0, hI0, -, ht0, -⟩ := hi0
  obtain ⟨S, htS⟩ := ht0.ex
  have hn := hf0.le hI0
  have hf1 : freshz z (bK K n KS_i12) (n + 5) := freshz_bK (l := KS_i12) hf0
  have hK : ∀ i κ, KS_i12[i]? = some κ → bK K n KS_i12 (n + i) = some κ := fun i κ h => bK_at h
  have hX : ∀ f i v, i < 5 → lkf (LX_i12 n) f i = some v → bm none X n 5 (LX_i12 n) f (n + i) = v := fun f i v hi h => by
    unfold bm
    rw [if_pos (by omega), Nat.add_sub_cancel_left, h]
    rfl
  have hsh : Sh (bK K n KS_i12) (bm none X n 5 (LX_i12 n)) n 9 rows9 := by
    refine ⟨hK 0 _ rfl, fun k q hq => ?_⟩
    have hk : k < 4 := (List.getElem?_eq_some_iff.mp hq).1
    rcases (show k = 0 ∨ k = 1 ∨ k = 2 ∨ k = 3 by omega) with rfl | rfl | rfl | rfl
    · cases hq
      exact ⟨hK 1 _ rfl, hX 900 0 _ (by decide) rfl⟩
    · cases hq
      exact ⟨hK 2 _ rfl, hX 901 0 _ (by decide) rfl⟩
    · cases hq
      exact ⟨hK 3 _ rfl, hX 902 0 _ (by decide) rfl⟩
    · cases hq
      exact ⟨hK 4 _ rfl, hX 903 0 _ (by decide) rfl⟩
  have hy : ∀ a, n ≤ a → bK K n KS_i12 a = some (.inl 3) → Sh (bK K n KS_i12) (bm none X n 5 (LX_i12 n)) a 3 rows3 := by
    intro a ha he
    exfalso
    by_cases q : a < n + 5
    · obtain ⟨i, rfl⟩ : ∃ i, a = n + i := ⟨a - n, by omega⟩
      have hl : i < KS_i12.length := by show i < 5; omega
      rw [bK_at (List.getElem?_eq_getElem hl)] at he
      have hd : ∀ i : Fin 5, ¬ KS_i12[i.val]? = some (.inl 3) := by decide +kernel
      exact hd ⟨i, by omega⟩ (by rw [List.getElem?_eq_getElem hl]; exact he)
    · rw [hf1.2.1 a (by omega)] at he
      exact nomatch he
  have htG := htS.grow hag hf0 hn
  have hi1 := hi.grow hag hf1 hy
  clear hi
  have hi := hi1
  obtain ⟨hfresh, hIS, hbegun, htold, htape, hfault, hrowby, hdone, hbest, hmore, hhooks, haims, hout, hstrs, hmost, hfire⟩ := hi
  have hS0 := hIS.1.1
  have hS11 := hIS.1.2.1
  have hKz := hS0.1
  have e90 : ba z2 Q n 5 [] (z + 90) = Q (z + 90) := ba_lt (by omega)
  have eq : ∀ k, k < 172 → k ≠ 90 → a_up (ba z2 Q n 5 []) (z + 90) (va_up (ba z2 Q n 5 [] (z + 90)) j (some n)) (z + k) = ba z2 Q n 5 [] (z + k) := fun k hk h => by
    unfold a_up
    exact if_neg (by omega)
  have es : ∀ i, a_up (ba z2 Q n 5 []) (z + 90) (va_up (ba z2 Q n 5 [] (z + 90)) j (some n)) (z + 90) i = if i = j then some n else Q (z + 90) i := fun i => by
    unfold a_up va_up
    rw [if_pos rfl, e90]
  have hold : ∀ i s, i < 21 → Q (z + 90) i = some s → s < n := fun i s hi hs => lt_fr hf0 (by rw [(hI0.o.2.2.2.2.2.2.2.2.2.2.1 i s hi hs).2.1]; exact fun h => nomatch h)
  have hIS2 : IS z (bK K n KS_i12) (bm none X n 5 (LX_i12 n)) (a_up (ba z2 Q n 5 []) (z + 90) (va_up (ba z2 Q n 5 [] (z + 90)) j (some n))) := by
    obtain ⟨a, b, c, d, e, ⟨f1, f2⟩, g, i, j1, k1, l, m1, n1, o, p, q1, q2, q3, q4⟩ := hIS
    refine ⟨a, b, c, d, e, ⟨f1, by rw [eq 91 (by decide) (by decide)]; exact f2⟩, by rw [eq 24 (by decide) (by decide)]; exact g, i, j1, k1, l, m1, n1, o, p, by rw [eq 46 (by decide) (by decide)]; exact q1, q2, fun i s hi hs => ?_, fun i i' s hi hi' hs hs' => ?_⟩
    · rw [es] at hs
      by_cases q : i = j
      · rw [if_pos q] at hs
        cases hs
        exact ⟨hn, hsh⟩
      · rw [if_neg q, ← e90] at hs
        exact q3 i s hi hs
    · rw [es] at hs hs'
      by_cases q : i = j <;> by_cases q' : i' = j
      · rw [q, q']
      · rw [if_pos q] at hs
        rw [if_neg q'] at hs'
        cases hs
        exact absurd (hold i' _ hi' hs') (Nat.lt_irrefl _)
      · rw [if_neg q] at hs
        rw [if_pos q'] at hs'
        cases hs'
        exact absurd (hold i _ hi hs) (Nat.lt_irrefl _)
      · rw [if_neg q, ← e90] at hs
        rw [if_neg q', ← e90] at hs'
        exact q4 i i' s hi hi' hs hs'
  have ht : ToldS z S (bK K n KS_i12) (bm 0 I n 5 LI_i12) (bm 0 J n 5 LJ_i12) (bm none X n 5 (LX_i12 n)) (ba z0 A n 5 LA_i12) (ba z1 B n 5 []) (a_up (ba z2 Q n 5 []) (z + 90) (va_up (ba z2 Q n 5 [] (z + 90)) j (some n))) (layF (I 1122 (z + 126)) (A (z + 128))) := by
    refine htG.fr (fun a q => ⟨rfl, fun _ => rfl, fun _ => rfl, fun _ => rfl, rfl, ?_⟩) (fun _ _ => rfl) (fun _ _ => rfl) (fun _ _ => rfl) rfl rfl rfl (fun i s hi hs d hd hS => ?_) (eq 125 (by decide) (by decide)) rfl rfl rfl (fun k s _ _ _ _ => ⟨rfl, rfl, rfl, rfl⟩)
    · unfold a_up
      exact if_neg (by unfold Fz at q; omega)
    · rw [es] at hs
      by_cases q : i = j
      · rw [if_pos q] at hs
        cases hs
        exact (htS.1 _ hS).1 (hf0.2.1 _ (by omega))
      · rw [if_neg q] at hs
        exact htS.2.1 i s hi hs d hd hS
  have hst : StrQ adS z (a_up (ba z2 Q n 5 []) (z + 90) (va_up (ba z2 Q n 5 [] (z + 90)) j (some n))) := by
    unfold StrQ at hstrs ⊢
    simp (disch := decide) only [eq]
    exact hstrs
  have e1122 : bm 0 I n 5 LI_i12 1122 (z + 126) = I 1122 (z + 126) := bm_lt (by omega)
  have e128 : ba z0 A n 5 LA_i12 (z + 128) = A (z + 128) := ba_lt (by omega)
  exact ⟨hfresh, hIS2, hbegun, ToldS.t (S := S) (by rw [e1122, e128]; exact ht), htape, hfault, hrowby, hdone, hbest, hmore, hhooks, haims, hout, hst, hmost, hfire⟩
