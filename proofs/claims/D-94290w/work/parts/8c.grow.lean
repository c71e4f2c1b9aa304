/-! a heap that has grown: what stands below n is as it was -/
set_option maxRecDepth 100000
def Agree (n : Nat) (K : gK) (I : gI) (J : gJ) (X : gX) (A : gI) (B : gJ) (Q : gX) (K' : gK) (I' : gI) (J' : gJ) (X' : gX) (A' : gI) (B' : gJ) (Q' : gX) : Prop :=
  ∀ a, a < n → K' a = K a ∧ (∀ f, I' f a = I f a) ∧ (∀ f, J' f a = J f a) ∧ (∀ f, X' f a = X f a) ∧ A' a = A a ∧ B' a = B a ∧ Q' a = Q a
theorem Agree.refl {n : Nat} {K : gK} {I : gI} {J : gJ} {X : gX} {A : gI} {B : gJ} {Q : gX} : Agree n K I J X A B Q K I J X A B Q := fun _ _ => ⟨rfl, fun _ => rfl, fun _ => rfl, fun _ => rfl, rfl, rfl, rfl⟩
theorem bm_lt {α : Type} {d : α} {M : Nat → Nat → α} {n L f a : Nat} {l : List (Nat × Nat × α)} (h : a < n) : bm d M n L l f a = M f a := by
  unfold bm
  exact if_neg (by omega)
theorem ba_lt {α : Type} {d : α} {M : Nat → α} {n L a : Nat} {l : List (Nat × α)} (h : a < n) : ba d M n L l a = M a := by
  unfold ba
  exact if_neg (by omega)
/-- a block new at n -/
theorem Agree.blk {n L : Nat} {lk : List (Nat ⊕ (Nat × Nat))} {li : List (Nat × Nat × Int32)} {lj : List (Nat × Nat × Int64)} {lx : List (Nat × Nat × Option Nat)} {la : List (Nat × (Nat → Int32))} {lb : List (Nat × (Nat → Int64))} {lq : List (Nat × (Nat → Option Nat))} {d1 : Int32} {d2 : Int64} {d3 : Option Nat} {d4 : Nat → Int32} {d5 : Nat → Int64} {d6 : Nat → Option Nat} {K : gK} {I : gI} {J : gJ} {X : gX} {A : gI} {B : gJ} {Q : gX} : Agree n K I J X A B Q (bK K n lk) (bm d1 I n L li) (bm d2 J n L lj) (bm d3 X n L lx) (ba d4 A n L la) (ba d5 B n L lb) (ba d6 Q n L lq) :=
  fun _ ha => ⟨bK_lt ha, fun _ => bm_lt ha, fun _ => bm_lt ha, fun _ => bm_lt ha, ba_lt ha, ba_lt ha, ba_lt ha⟩
theorem Agree.ext {n : Nat} {K K' : gK} {I I' : gI} {J J' : gJ} {X X' : gX} {A A' : gI} {B B' : gJ} {Q Q' : gX} (h : Agree n K I J X A B Q K' I' J' X' A' B' Q') {z : Nat} (hf : freshz z K n) : Ext K K' := by
  intro a ha
  by_cases q : a < n
  · exact (h a q).1
  · exact absurd (hf.2.1 a (by omega)) ha
theorem lt_fr {z n a : Nat} {K : gK} (hf : freshz z K n) (ha : K a ≠ none) : a < n := by
  by_cases q : a < n
  · exact q
  · exact absurd (hf.2.1 a (by omega)) ha
theorem ToldS.grow {z n : Nat} {S : Nat → Prop} {K K' : gK} {I I' : gI} {J J' : gJ} {X X' : gX} {A A' : gI} {B B' : gJ} {Q Q' : gX} {w : Nat → Int32} (h : ToldS z S K I J X A B Q w) (ha : Agree n K I J X A B Q K' I' J' X' A' B' Q') (hf : freshz z K n) (hn : z + 172 ≤ n) : ToldS z S K' I' J' X' A' B' Q' w := by
  have hF := h.F hf hn
  have e : ∀ k, k < 172 → Q' (z + k) = Q (z + k) ∧ A' (z + k) = A (z + k) ∧ B' (z + k) = B (z + k) := fun k hk => ⟨(ha _ (by omega)).2.2.2.2.2.2, (ha _ (by omega)).2.2.2.2.1, (ha _ (by omega)).2.2.2.2.2.1⟩
  have ex : ∀ f, X' f (z + 7) = X f (z + 7) := fun f => (ha _ (by omega)).2.2.2.1 f
  refine h.fr (fun a hq => ?_) (fun a hq => (ha a (lt_fr hf (h.1 a hq).1)).1) (fun _ _ => rfl) (fun i _ => by rw [(e 132 (by decide)).2.2]) (ex _) (ex _) (ex _) (fun j s hj hs => h.2.1 j s hj (by rw [← (e 90 (by decide)).1]; exact hs)) (e 125 (by decide)).1 (e 131 (by decide)).2.1 (e 135 (by decide)).2.1 (e 134 (by decide)).2.2 (fun k s _ _ hk _ => ?_)
  · obtain ⟨a1, a2, a3, a4, a5, -, a7⟩ := ha a (lt_fr hf (hF a hq))
    exact ⟨a1, a2, a3, a4, a5, a7⟩
  · obtain ⟨a1, a2, a3, a4, -⟩ := ha s (lt_fr hf (by rw [hk]; exact fun h => nomatch h))
    exact ⟨a1, a4 _, a4 _, a4 _⟩
theorem IS.grow {z n : Nat} {K K' : gK} {I I' : gI} {J J' : gJ} {X X' : gX} {A A' : gI} {B B' : gJ} {Q Q' : gX} (h : IS z K X Q) (ha : Agree n K I J X A B Q K' I' J' X' A' B' Q') (hf : freshz z K n) (hy : ∀ a, n ≤ a → K' a = some (.inl 3) → Sh K' X' a 3 rows3) : IS z K' X' Q' := by
  have hn := hf.le h
  have hE := ha.ext hf
  -- first X, where K stands
  have h1 : IS z K X' Q := IS_same h fun f _ a hk => (ha a (lt_fr hf hk)).2.2.2.1 f
  have eq : ∀ k, k < 172 → Q' (z + k) = Q (z + k) := fun k hk => (ha _ (by omega)).2.2.2.2.2.2
  obtain ⟨⟨a1, a2, a3⟩, ⟨b1, b2⟩, ⟨c1, c2⟩, ⟨d1, d2⟩, ⟨e1, e2⟩, ⟨⟨f1, f2, f3, f4⟩, f5⟩, g, ⟨i1, i2⟩, ⟨j1, j2⟩, ⟨k1, k2⟩, ⟨l1, l2⟩, ⟨m1, m2⟩, ⟨n1, n2⟩, ⟨o1, o2⟩, ⟨p1, p2⟩, q1, q2, q3, q4⟩ := h1
  refine ⟨⟨a1.ext hE, a2.ext hE, ke hE a3⟩, ⟨ke hE b1, b2⟩, ⟨c1.ext hE, c2⟩, ⟨d1.ext hE, d2⟩, ⟨e1.ext hE, e2⟩, ⟨⟨f1.ext hE, f2.ext hE, f3.ext hE, f4.ext hE⟩, by rw [eq 91 (by decide)]; exact f5⟩, fun j hj => ⟨ke hE (g j hj).1, by rw [eq 24 (by decide)]; exact (g j hj).2⟩, ⟨ke hE i1, i2⟩, ⟨ke hE j1, j2⟩, ⟨ke hE k1, k2⟩, ⟨l1.ext hE, l2⟩, ⟨m1.ext hE, m2⟩, ⟨n1.ext hE, n2⟩, ⟨o1.ext hE, o2⟩, ⟨p1.ext hE, p2⟩, fun j hj => ⟨ke hE (q1 j hj).1, by rw [eq 46 (by decide)]; exact (q1 j hj).2⟩, fun y hy' => ?_, fun j s hj hs => ?_, fun i j s hi hj hs hs' => ?_⟩
  · by_cases q : n ≤ y
    · exact hy y q hy'
    · have : K y = some (.inl 3) := (ha y (by omega)).1.symm.trans hy'
      exact (q2 y this).ext hE
  · rw [eq 90 (by decide)] at hs
    exact ⟨(q3 j s hj hs).1, (q3 j s hj hs).2.ext hE⟩
  · rw [eq 90 (by decide)] at hs hs'
    exact q4 i j s hi hj hs hs'
theorem pFire.grow {z n : Nat} {K K' : gK} {I I' : gI} {J J' : gJ} {X X' : gX} {A A' : gI} {B B' : gJ} {Q Q' : gX} {has : Int32} {xy : Option Nat} {fu we bu : Nat → Int32} {was fc fr : Int32} {cell : Nat → Int32} (h : pFire K (I 304) (I 305) has xy fu we bu was fc fr cell) (ha : Agree n K I J X A B Q K' I' J' X' A' B' Q') (hf : freshz z K n) : pFire K' (I' 304) (I' 305) has xy fu we bu was fc fr cell := by
  rcases h with h | ⟨h1, h2, y, C, R, h3, h4, h5, h6, h7, h8, h9⟩
  · exact Or.inl h
  · obtain ⟨a1, a2, -⟩ := ha y (lt_fr hf (by rw [h4]; exact fun h => nomatch h))
    exact Or.inr ⟨h1, h2, y, C, R, h3, a1.trans h4, h5, h6, (a2 _).trans h7, (a2 _).trans h8, h9⟩
theorem Inv.grow {adS : Nat → Nat} {z n n' : Nat} {K K' : gK} {I I' : gI} {J J' : gJ} {X X' : gX} {A A' : gI} {B B' : gJ} {Q Q' : gX} (hi : Inv adS z K I J X A B Q n) (ha : Agree n K I J X A B Q K' I' J' X' A' B' Q') (hf : freshz z K' n') (hy : ∀ a, n ≤ a → K' a = some (.inl 3) → Sh K' X' a 3 rows3) : Inv adS z K' I' J' X' A' B' Q' n' := by
  obtain ⟨hfresh, hIS, hbegun, htold, htape, hfault, hrowby, hdone, hbest, hmore, hhooks, haims, hout, hstrs, hmost, hfire⟩ := hi
  have hS0 := hIS.1.1
  have hS11 := hIS.1.2.1
  have hKz := hS0.1
  have hn := hfresh.le hIS
  have eI0 : ∀ f, I' f z = I f z := fun f => (ha _ (by omega)).2.1 f
  have eI : ∀ f k, k < 172 → I' f (z + k) = I f (z + k) := fun f k hk => (ha _ (by omega)).2.1 f
  have eA : ∀ k, k < 172 → A' (z + k) = A (z + k) := fun k hk => (ha _ (by omega)).2.2.2.2.1
  have eX : ∀ f k, k < 172 → X' f (z + k) = X f (z + k) := fun f k hk => (ha _ (by omega)).2.2.2.1 f
  have eQ : ∀ k, k < 172 → Q' (z + k) = Q (z + k) := fun k hk => (ha _ (by omega)).2.2.2.2.2.2
  obtain ⟨S, htold⟩ := htold.ex
  have ht := htold.grow ha hfresh hn
  have hst : StrQ adS z Q' := by
    unfold StrQ at hstrs ⊢
    simp (disch := decide) only [eQ]
    exact hstrs
  have hfi := hfire.grow ha hfresh
  exact ⟨hf, (hIS.grow ha hfresh hy), (by simpa (disch := decide) only [eI, eI0, eA] using hbegun), ToldS.t (S := S) (by simpa (disch := decide) only [eI, eA] using ht), (by simpa (disch := decide) only [eI, eI0, eA] using htape), (by simpa (disch := decide) only [eI, eI0, eA] using hfault), (by simpa (disch := decide) only [eI, eI0, eA] using hrowby), (by simpa (disch := decide) only [eI, eI0, eA] using hdone), (by simpa (disch := decide) only [eI, eI0, eA] using hbest), (by simpa (disch := decide) only [eI, eI0, eA] using hmore), (by simpa (disch := decide) only [eI, eI0, eA] using hhooks), (by simpa (disch := decide) only [eI, eI0, eA] using haims), (by simpa (disch := decide) only [eI, eI0, eA] using hout), hst, (by simpa (disch := decide) only [eI, eI0, eA] using hmost), (by simpa (disch := decide) only [eI, eI0, eA, eX] using hfi)⟩
theorem freshz_bK {z n : Nat} {K : gK} {l : List (Nat ⊕ (Nat × Nat))} (h : freshz z K n) : freshz z (bK K n l) (n + l.length) := by
  refine ⟨Nat.le_trans h.1 (Nat.le_add_right _ _), fun a ha => ?_, fun a ha hn => ?_⟩
  · unfold bK
    rw [if_pos (by omega), List.getElem?_eq_none (by omega)]
    exact h.2.1 a (by omega)
  · unfold bK
    by_cases q : n ≤ a
    · rw [if_pos q, List.getElem?_eq_getElem (by omega)]
      exact fun h => nomatch h
    · rw [if_neg q]
      exact h.2.2 a ha (by omega)
