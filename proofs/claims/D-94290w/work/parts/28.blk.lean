/-! NEW CELLS in blocks: from an address on, cell by cell -/
set_option maxRecDepth 100000
def bK (K : gK) (n : Nat) (l : List (Nat ⊕ (Nat × Nat))) : gK := fun a => if n ≤ a then (match l[a - n]? with | some κ => some κ | none => K a) else K a
def lkf {α : Type} : List (Nat × Nat × α) → Nat → Nat → Option α
  | [], _, _ => none
  | e :: l, f, i => cond (Nat.beq e.1 f && Nat.beq e.2.1 i) (some e.2.2) (lkf l f i)
def lka {α : Type} : List (Nat × α) → Nat → Option α
  | [], _ => none
  | e :: l, i => cond (Nat.beq e.1 i) (some e.2) (lka l i)
def bm {α : Type} (d : α) (M : Nat → Nat → α) (n L : Nat) (l : List (Nat × Nat × α)) : Nat → Nat → α := fun f a => if n ≤ a ∧ a < n + L then (lkf l f (a - n)).getD d else M f a
def ba {α : Type} (d : α) (M : Nat → α) (n L : Nat) (l : List (Nat × α)) : Nat → α := fun a => if n ≤ a ∧ a < n + L then (lka l (a - n)).getD d else M a
theorem nbf {a b : Nat} : Nat.beq a b = false ↔ a ≠ b := by
  constructor
  · intro h e
    subst e
    rw [Nat.beq_refl] at h
    cases h
  · intro h
    cases q : Nat.beq a b
    · rfl
    · exact absurd (Nat.eq_of_beq_eq_true q) h
def fresh (G : gG) (K : gK) (n : Nat) : Prop := G.2.2 ≤ n ∧ (∀ a, n ≤ a → K a = none) ∧ ∀ a, G.2.2 ≤ a → a < n → K a ≠ none
theorem bK_at {K : gK} {n i : Nat} {l : List (Nat ⊕ (Nat × Nat))} {κ : Nat ⊕ (Nat × Nat)} (h : l[i]? = some κ) : bK K n l (n + i) = some κ := by
  unfold bK
  rw [if_pos (Nat.le_add_right n i), Nat.add_sub_cancel_left, h]
theorem bK_lt {K : gK} {n a : Nat} {l : List (Nat ⊕ (Nat × Nat))} (h : a < n) : bK K n l a = K a := by
  unfold bK
  rw [if_neg (by omega)]
theorem bK_ge {K : gK} {n a : Nat} {l : List (Nat ⊕ (Nat × Nat))} (h : n + l.length ≤ a) : bK K n l a = K a := by
  unfold bK
  rw [if_pos (by omega), List.getElem?_eq_none (by omega)]
theorem bK_in {K : gK} {n a : Nat} {l : List (Nat ⊕ (Nat × Nat))} (h1 : n ≤ a) (h2 : a < n + l.length) : bK K n l a ≠ none := by
  unfold bK
  rw [if_pos h1, List.getElem?_eq_getElem (show a - n < l.length by omega)]
  exact fun h => by cases h
theorem bK_app {K : gK} {n L : Nat} {l l2 : List (Nat ⊕ (Nat × Nat))} (hl : l.length = L) : bK (bK K n l) (n + L) l2 = bK K n (l ++ l2) := by
  subst hl
  funext a
  unfold bK
  by_cases h1 : n ≤ a
  · rw [if_pos h1]
    by_cases h2 : n + l.length ≤ a
    · rw [if_pos h2, List.getElem?_append_right (show l.length ≤ a - n by omega), if_pos h1, List.getElem?_eq_none (show l.length ≤ a - n by omega), show a - n - l.length = a - (n + l.length) by omega]
    · rw [if_neg h2, if_pos h1, List.getElem?_append_left (show a - n < l.length by omega)]
  · rw [if_neg h1, if_neg (show ¬ n + l.length ≤ a by omega), if_neg h1]
theorem bK_one {K : gK} {n : Nat} {κ : Nat ⊕ (Nat × Nat)} : a_up K n (some κ) = bK K n [κ] := by
  funext a
  unfold a_up bK
  by_cases h : a = n
  · subst h
    rw [if_pos rfl, if_pos (Nat.le_refl _), Nat.sub_self]
    rfl
  · rw [if_neg h]
    by_cases h1 : n ≤ a
    · rw [if_pos h1, List.getElem?_eq_none (show [κ].length ≤ a - n by show 1 ≤ _; omega)]
    · rw [if_neg h1]
theorem bK_snoc {K : gK} {n L : Nat} {l : List (Nat ⊕ (Nat × Nat))} {κ : Nat ⊕ (Nat × Nat)} (hl : l.length = L) : a_up (bK K n l) (n + L) (some κ) = bK K n (l ++ [κ]) := by
  rw [bK_one, bK_app hl]
theorem fresh.bK {G : gG} {K : gK} {n L : Nat} {l : List (Nat ⊕ (Nat × Nat))} (h : fresh G K n) (hl : l.length = L) : fresh G (bK K n l) (n + L) := by
  subst hl
  obtain ⟨h1, h2, h3⟩ := h
  refine ⟨by omega, fun a ha => by rw [bK_ge ha]; exact h2 a (by omega), fun a ha hb => ?_⟩
  by_cases q : n ≤ a
  · exact bK_in q hb
  · rw [bK_lt (by omega)]
    exact h3 a ha (by omega)
theorem lkf_none {α : Type} {f i L : Nat} : ∀ {l : List (Nat × Nat × α)}, (∀ e ∈ l, e.2.1 < L) → L ≤ i → lkf l f i = none
  | [], _, _ => rfl
  | e :: l, h, hi => by
    have h1 := h e List.mem_cons_self
    have h2 : Nat.beq e.2.1 i = false := by
      rw [nbf]
      omega
    show cond (Nat.beq e.1 f && Nat.beq e.2.1 i) _ _ = none
    rw [h2, Bool.and_false]
    exact lkf_none (fun x hx => h x (List.mem_cons_of_mem _ hx)) hi
theorem lka_none {α : Type} {i L : Nat} : ∀ {l : List (Nat × α)}, (∀ e ∈ l, e.1 < L) → L ≤ i → lka l i = none
  | [], _, _ => rfl
  | e :: l, h, hi => by
    have h1 := h e List.mem_cons_self
    have h2 : Nat.beq e.1 i = false := by
      rw [nbf]
      omega
    show cond (Nat.beq e.1 i) _ _ = none
    rw [h2]
    exact lka_none (fun x hx => h x (List.mem_cons_of_mem _ hx)) hi
theorem bm_at {α : Type} {d : α} {M : Nat → Nat → α} {n L f i : Nat} {l : List (Nat × Nat × α)} (hi : i < L) : bm d M n L l f (n + i) = (lkf l f i).getD d := by
  unfold bm
  rw [if_pos ⟨by omega, by omega⟩, Nat.add_sub_cancel_left]
theorem ba_at {α : Type} {d : α} {M : Nat → α} {n L i : Nat} {l : List (Nat × α)} (hi : i < L) : ba d M n L l (n + i) = (lka l i).getD d := by
  unfold ba
  rw [if_pos ⟨by omega, by omega⟩, Nat.add_sub_cancel_left]
theorem bm_put {α : Type} {d : α} {M : Nat → Nat → α} {n L f i : Nat} {l : List (Nat × Nat × α)} {v : α} (hi : i < L) : i_up (bm d M n L l) f (n + i) v = bm d M n L ((f, i, v) :: l) := by
  funext g a
  by_cases hg : g = f
  · subst hg
    by_cases ha : a = n + i
    · subst ha
      rw [i_up_self, bm_at hi]
      show v = (cond (Nat.beq g g && Nat.beq i i) (some v) _).getD d
      rw [Nat.beq_refl, Nat.beq_refl]
      rfl
    · rw [i_up_a ha]
      unfold bm
      split
      · rename_i hb
        have h2 : Nat.beq i (a - n) = false := by
          rw [nbf]
          omega
        show _ = (cond (Nat.beq g g && Nat.beq i (a - n)) (some v) _).getD d
        rw [h2, Bool.and_false]
        rfl
      · rfl
  · rw [i_up_f hg]
    unfold bm
    split
    · have h2 : Nat.beq f g = false := by
        rw [nbf]
        exact fun h => hg h.symm
      show _ = (cond (Nat.beq f g && Nat.beq i (a - n)) (some v) _).getD d
      rw [h2, Bool.false_and]
      rfl
    · rfl
theorem ba_put {α : Type} {d : α} {M : Nat → α} {n L i : Nat} {l : List (Nat × α)} {v : α} (hi : i < L) : a_up (ba d M n L l) (n + i) v = ba d M n L ((i, v) :: l) := by
  funext a
  by_cases ha : a = n + i
  · subst ha
    rw [a_up_self, ba_at hi]
    show v = (cond (Nat.beq i i) (some v) _).getD d
    rw [Nat.beq_refl]
    rfl
  · rw [a_up_ne ha]
    unfold ba
    split
    · have h2 : Nat.beq i (a - n) = false := by
        rw [nbf]
        omega
      show _ = (cond (Nat.beq i (a - n)) (some v) _).getD d
      rw [h2]
      rfl
    · rfl
theorem bm_new {α : Type} {d : α} {M : Nat → Nat → α} {n L : Nat} {l : List (Nat × Nat × α)} (ho : ∀ e ∈ l, e.2.1 < L) : zc (bm d M n L l) (n + L) d = bm d M n (L + 1) l := by
  funext f a
  unfold zc
  by_cases ha : a = n + L
  · subst ha
    rw [if_pos rfl, bm_at (Nat.lt_succ_self L), lkf_none ho (Nat.le_refl _)]
    rfl
  · rw [if_neg ha]
    unfold bm
    by_cases h1 : n ≤ a ∧ a < n + L
    · rw [if_pos h1, if_pos ⟨h1.1, by omega⟩]
    · rw [if_neg h1, if_neg (by omega)]
theorem bm_ne {α : Type} {d : α} {M : Nat → Nat → α} {n L f a : Nat} {l : List (Nat × Nat × α)} (ha : a ≠ n + L) : bm d M n (L + 1) l f a = bm d M n L l f a := by
  unfold bm
  by_cases h1 : n ≤ a ∧ a < n + L
  · rw [if_pos h1, if_pos ⟨h1.1, by omega⟩]
  · rw [if_neg h1, if_neg (by omega)]
theorem ba_ne {α : Type} {d : α} {M : Nat → α} {n L a : Nat} {l : List (Nat × α)} (ha : a ≠ n + L) : ba d M n (L + 1) l a = ba d M n L l a := by
  unfold ba
  by_cases h1 : n ≤ a ∧ a < n + L
  · rw [if_pos h1, if_pos ⟨h1.1, by omega⟩]
  · rw [if_neg h1, if_neg (by omega)]
theorem ba_new {α : Type} {d : α} {M : Nat → α} {n L : Nat} {l : List (Nat × α)} (ho : ∀ e ∈ l, e.1 < L) : a_up (ba d M n L l) (n + L) d = ba d M n (L + 1) l := by
  funext a
  by_cases ha : a = n + L
  · subst ha
    rw [a_up_self, ba_at (Nat.lt_succ_self L), lka_none ho (Nat.le_refl _)]
    rfl
  · rw [a_up_ne ha, ba_ne ha]
/-- offsets moved on -/
def shf {α : Type} (L : Nat) (l : List (Nat × Nat × α)) : List (Nat × Nat × α) := l.map fun e => (e.1, L + e.2.1, e.2.2)
def sha {α : Type} (L : Nat) (l : List (Nat × α)) : List (Nat × α) := l.map fun e => (L + e.1, e.2)
theorem lkf_shf {α : Type} {L f i : Nat} : ∀ {l2 l : List (Nat × Nat × α)}, lkf (shf L l2 ++ l) f (L + i) = (match lkf l2 f i with | some v => some v | none => lkf l f (L + i))
  | [], l => rfl
  | e :: l2, l => by
    show cond (Nat.beq e.1 f && Nat.beq (L + e.2.1) (L + i)) (some e.2.2) (lkf (shf L l2 ++ l) f (L + i)) = match cond (Nat.beq e.1 f && Nat.beq e.2.1 i) (some e.2.2) (lkf l2 f i) with | some v => some v | none => lkf l f (L + i)
    have h : Nat.beq (L + e.2.1) (L + i) = Nat.beq e.2.1 i := by
      by_cases q : e.2.1 = i
      · rw [q, Nat.beq_refl, Nat.beq_refl]
      · rw [(nbf).mpr q, (nbf).mpr (by omega)]
    rw [h, lkf_shf]
    cases Nat.beq e.1 f && Nat.beq e.2.1 i <;> rfl
theorem lkf_shl {α : Type} {L f i : Nat} (hi : i < L) : ∀ {l2 l : List (Nat × Nat × α)}, lkf (shf L l2 ++ l) f i = lkf l f i
  | [], l => rfl
  | e :: l2, l => by
    show cond (Nat.beq e.1 f && Nat.beq (L + e.2.1) i) (some e.2.2) (lkf (shf L l2 ++ l) f i) = lkf l f i
    rw [(nbf).mpr (show L + e.2.1 ≠ i by omega), Bool.and_false]
    exact lkf_shl hi
theorem lka_sha {α : Type} {L i : Nat} : ∀ {l2 l : List (Nat × α)}, lka (sha L l2 ++ l) (L + i) = (match lka l2 i with | some v => some v | none => lka l (L + i))
  | [], l => rfl
  | e :: l2, l => by
    show cond (Nat.beq (L + e.1) (L + i)) (some e.2) (lka (sha L l2 ++ l) (L + i)) = match cond (Nat.beq e.1 i) (some e.2) (lka l2 i) with | some v => some v | none => lka l (L + i)
    have h : Nat.beq (L + e.1) (L + i) = Nat.beq e.1 i := by
      by_cases q : e.1 = i
      · rw [q, Nat.beq_refl, Nat.beq_refl]
      · rw [(nbf).mpr q, (nbf).mpr (by omega)]
    rw [h, lka_sha]
    cases Nat.beq e.1 i <;> rfl
theorem lka_shl {α : Type} {L i : Nat} (hi : i < L) : ∀ {l2 l : List (Nat × α)}, lka (sha L l2 ++ l) i = lka l i
  | [], l => rfl
  | e :: l2, l => by
    show cond (Nat.beq (L + e.1) i) (some e.2) (lka (sha L l2 ++ l) i) = lka l i
    rw [(nbf).mpr (show L + e.1 ≠ i by omega)]
    exact lka_shl hi
theorem bm_app {α : Type} {d : α} {M : Nat → Nat → α} {n L L2 : Nat} {l l2 : List (Nat × Nat × α)} (ho : ∀ e ∈ l, e.2.1 < L) : bm d (bm d M n L l) (n + L) L2 l2 = bm d M n (L + L2) (shf L l2 ++ l) := by
  funext f a
  unfold bm
  by_cases h1 : n + L ≤ a ∧ a < n + L + L2
  · rw [if_pos h1, if_pos ⟨by omega, by omega⟩]
    obtain ⟨i, rfl⟩ : ∃ i, a = n + L + i := ⟨a - (n + L), by omega⟩
    rw [Nat.add_sub_cancel_left, show n + L + i - n = L + i by omega, lkf_shf, lkf_none ho (Nat.le_add_right _ _)]
    cases lkf l2 f i <;> rfl
  · rw [if_neg h1]
    by_cases h2 : n ≤ a ∧ a < n + L
    · rw [if_pos h2, if_pos ⟨h2.1, by omega⟩, lkf_shl (by omega)]
    · rw [if_neg h2, if_neg (by omega)]
theorem ba_app {α : Type} {d : α} {M : Nat → α} {n L L2 : Nat} {l l2 : List (Nat × α)} (ho : ∀ e ∈ l, e.1 < L) : ba d (ba d M n L l) (n + L) L2 l2 = ba d M n (L + L2) (sha L l2 ++ l) := by
  funext a
  unfold ba
  by_cases h1 : n + L ≤ a ∧ a < n + L + L2
  · rw [if_pos h1, if_pos ⟨by omega, by omega⟩]
    obtain ⟨i, rfl⟩ : ∃ i, a = n + L + i := ⟨a - (n + L), by omega⟩
    rw [Nat.add_sub_cancel_left, show n + L + i - n = L + i by omega, lka_sha, lka_none ho (Nat.le_add_right _ _)]
    cases lka l2 i <;> rfl
  · rw [if_neg h1]
    by_cases h2 : n ≤ a ∧ a < n + L
    · rw [if_pos h2, if_pos ⟨h2.1, by omega⟩, lka_shl (by omega)]
    · rw [if_neg h2, if_neg (by omega)]
theorem bm_0 {α : Type} {d : α} {M : Nat → Nat → α} {n : Nat} : bm d M n 0 [] = M := by
  funext f a
  unfold bm
  rw [if_neg (by omega)]
theorem ba_0 {α : Type} {d : α} {M : Nat → α} {n : Nat} : ba d M n 0 [] = M := by
  funext a
  unfold ba
  rw [if_neg (by omega)]
theorem bK_0 {K : gK} {n : Nat} : bK K n [] = K := by
  funext a
  unfold bK
  split <;> rfl
def z0 : Nat → Int32 := fun _ => 0
def z1 : Nat → Int64 := fun _ => 0
def z2 : Nat → Option Nat := fun _ => none
/-- the picture reads I, J, X at objects, A, B, Q at arrays by their sort -/
theorem RS.junk {G : gG} {K : gK} {I I' : gI} {J J' : gJ} {X X' : gX} {A A' : gI} {B B' : gJ} {Q Q' : gX} {H : Heap} (h : RS G K I J X A B Q H) (e1 : ∀ a ci, K a = some (.inl ci) → ∀ f, I' f a = I f a ∧ J' f a = J f a ∧ X' f a = X f a) (e2 : ∀ a t n, K a = some (.inr (t, n)) → garr A' B' Q' t n a = garr A B Q t n a) : RS G K I' J' X' A' B' Q' H := by
  intro a
  refine ⟨?_, (h a).2⟩
  have h1 := (h a).1
  unfold rs_at at h1 ⊢
  cases hK : K a with
  | none => trivial
  | some κ =>
    rw [hK] at h1
    cases κ with
    | inl ci =>
      refine ⟨h1.1, h1.2.to fun k _ => ?_⟩
      obtain ⟨q1, q2, q3⟩ := e1 a ci hK (fid ci k)
      simp only [gfv, q1, q2, q3]
    | inr q =>
      obtain ⟨t, n⟩ := q
      show H[a]? = some (vp_cell (G.2.1 t) (garr A' B' Q' t n a))
      rw [e2 a t n hK]
      exact h1
/-- a block of new cells in the making -/
def BR (G : gG) (K : gK) (I : gI) (J : gJ) (X : gX) (A : gI) (B : gJ) (Q : gX) (n L : Nat) (ks : List (Nat ⊕ (Nat × Nat))) (li : List (Nat × Nat × Int32)) (lj : List (Nat × Nat × Int64)) (lx : List (Nat × Nat × Option Nat)) (la : List (Nat × (Nat → Int32))) (lb : List (Nat × (Nat → Int64))) (lq : List (Nat × (Nat → Option Nat))) (H : Heap) : Prop :=
  fresh G K n ∧ ks.length = L ∧ ((∀ e ∈ li, e.2.1 < L) ∧ (∀ e ∈ lj, e.2.1 < L) ∧ (∀ e ∈ lx, e.2.1 < L) ∧ (∀ e ∈ la, e.1 < L) ∧ (∀ e ∈ lb, e.1 < L) ∧ ∀ e ∈ lq, e.1 < L) ∧
  RS G (bK K n ks) (bm 0 I n L li) (bm 0 J n L lj) (bm none X n L lx) (ba z0 A n L la) (ba z1 B n L lb) (ba z2 Q n L lq) H
section BLK
variable {G : gG} {K : gK} {I : gI} {J : gJ} {X : gX} {A : gI} {B : gJ} {Q : gX} {n L : Nat} {ks : List (Nat ⊕ (Nat × Nat))} {li : List (Nat × Nat × Int32)} {lj : List (Nat × Nat × Int64)} {lx : List (Nat × Nat × Option Nat)} {la : List (Nat × (Nat → Int32))} {lb : List (Nat × (Nat → Int64))} {lq : List (Nat × (Nat → Option Nat))} {H : Heap}
theorem BR.size (hB : BR G K I J X A B Q n L ks li lj lx la lb lq H) (hz : G.2.2 ≤ H.size) : H.size = n + L := by
  obtain ⟨⟨f1, f2, f3⟩, hl, -, hR⟩ := hB
  subst hl
  rcases Nat.lt_trichotomy H.size (n + ks.length) with h | h | h
  · exfalso
    have h1 : bK K n ks H.size ≠ none := by
      by_cases q : n ≤ H.size
      · exact bK_in q h
      · rw [bK_lt (by omega)]
        exact f3 _ hz (by omega)
    exact Nat.lt_irrefl _ (hR.lt h1)
  · exact h
  · exact absurd (by rw [bK_ge (Nat.le_refl _)]; exact f2 _ (by omega)) (hR.all (a := n + ks.length) (by omega) h)
theorem BR.kind {i ci : Nat} (hB : BR G K I J X A B Q n L ks li lj lx la lb lq H) (h : ks[i]? = some (.inl ci)) : bK K n ks (n + i) = some (.inl ci) ∧ i < L := ⟨bK_at h, by rw [← hB.2.1]; exact (List.getElem?_eq_some_iff.mp h).1⟩
theorem BR.kinr {i : Nat} {t : Nat × Nat} (hB : BR G K I J X A B Q n L ks li lj lx la lb lq H) (h : ks[i]? = some (.inr t)) : bK K n ks (n + i) = some (.inr t) ∧ i < L := ⟨bK_at h, by rw [← hB.2.1]; exact (List.getElem?_eq_some_iff.mp h).1⟩
theorem off_cons {α : Type} {f i L : Nat} {v : α} {l : List (Nat × Nat × α)} (h : ∀ e ∈ l, e.2.1 < L) (hi : i < L) : ∀ e ∈ (f, i, v) :: l, e.2.1 < L := List.forall_mem_cons.mpr ⟨hi, h⟩
theorem offa_cons {α : Type} {i L : Nat} {v : α} {l : List (Nat × α)} (h : ∀ e ∈ l, e.1 < L) (hi : i < L) : ∀ e ∈ (i, v) :: l, e.1 < L := List.forall_mem_cons.mpr ⟨hi, h⟩
/-- the beginning -/
theorem BR.start (hF : fresh G K n) (hR : RS G K I J X A B Q H) : BR G K I J X A B Q n 0 [] [] [] [] [] [] [] H := ⟨hF, rfl, ⟨nofun, nofun, nofun, nofun, nofun, nofun⟩, by rw [bK_0, bm_0, bm_0, bm_0, ba_0, ba_0, ba_0]; exact hR⟩
/-- one cell more -/
theorem BR.more {κ : Nat ⊕ (Nat × Nat)} {H1 : Heap} (hB : BR G K I J X A B Q n L ks li lj lx la lb lq H) (hR : RS G (bK K n (ks ++ [κ])) (bm 0 I n (L + 1) li) (bm 0 J n (L + 1) lj) (bm none X n (L + 1) lx) (ba z0 A n (L + 1) la) (ba z1 B n (L + 1) lb) (ba z2 Q n (L + 1) lq) H1) : BR G K I J X A B Q n (L + 1) (ks ++ [κ]) li lj lx la lb lq H1 := by
  obtain ⟨hF, hl, ⟨o1, o2, o3, o4, o5, o6⟩, -⟩ := hB
  exact ⟨hF, by rw [List.length_append, hl]; rfl, ⟨fun e h => Nat.lt_succ_of_lt (o1 e h), fun e h => Nat.lt_succ_of_lt (o2 e h), fun e h => Nat.lt_succ_of_lt (o3 e h), fun e h => Nat.lt_succ_of_lt (o4 e h), fun e h => Nat.lt_succ_of_lt (o5 e h), fun e h => Nat.lt_succ_of_lt (o6 e h)⟩, hR⟩
end BLK
section BROW
variable {p : Program} {l : Launch} {e : Env} {R : Room} {s : State} {m : MethodId} {args : Array Value} {below : List Frame} {meth : Method} {c : Code} {H H0 : Heap} {locs : List Loc} {cells slots : Nat} {Z : State → Prop}
variable {cc : ByteArray} {pc : Nat} {ls : Array Slot} {rest : List Value} {index ci : Nat} {own C : String}
variable {G : gG} {K : gK} {I : gI} {J : gJ} {X : gX} {A : gI} {B : gJ} {Q : gX} {n L : Nat} {ks : List (Nat ⊕ (Nat × Nat))} {li : List (Nat × Nat × Int32)} {lj : List (Nat × Nat × Int64)} {lx : List (Nat × Nat × Option Nat)} {la : List (Nat × (Nat → Int32))} {lb : List (Nat × (Nat → Int64))} {lq : List (Nat × (Nat → Option Nat))}
theorem b_new {T : u_T} {N : Nat} (hx : p.tables.exec = Jvm.exec) (hb : c.code = cc) (hts : ∀ w ∈ lw_all, w.before args s = true) (hin : ∀ w ∈ u_ws C T N, w ∈ lw_all) (ty : Nat → FieldType) (hty : ∀ k, k < N → parseFieldDescriptor (T k).2.2.1 = some (ty k)) (hown : s.vm.findClass own = some m.cls) (hcl : (Cond.classLink own index C).before args s = true) (hinst : (Cond.instantiable C N).before args s = true) (hini : (Cond.initialized C).before args s = true)
    (hG : GC G s) (hB : BR G K I J X A B Q n L ks li lj lx la lb lq H) (hS : va_S (gA G) H0 H locs) (hz : G.2.2 ≤ H0.size) (hc : gCl[ci]? = some (C, T, N)) (hci : ci < 20) (hfs : ∀ j, j < N → defaultValue (ty j) = gdv (ft ci j)) (hcells : cells + 1 ≤ R.cells) (hslots : slots + N ≤ R.slots) (hdg : decode cc pc = .ok (.new index, 3))
    (kk : ∀ (H1 : Heap), BR G K I J X A B Q n (L + 1) (ks ++ [.inl ci]) li lj lx la lb lq H1 → va_S (gA G) H0 H1 locs →
      W p l e R s m args below meth c H1 locs (cells + 1) (slots + N) Z (F0 m (pc + 3) ls (.ref (n + L) :: rest))) : W p l e R s m args below meth c H locs cells slots Z (F0 m pc ls rest) := by
  have hsz := hB.size (Nat.le_trans hz hS.1)
  refine g_new hx hb hts hin ty hty hown hcl hinst hini hG hB.2.2.2 hS hz hc hci hfs hcells hslots hdg fun q H1 hq hz1 hR1 hS1 => ?_
  have e : q = n + L := hq.trans hsz
  subst e
  refine kk H1 (hB.more ?_) hS1
  obtain ⟨-, hl, ⟨o1, o2, o3, o4, o5, o6⟩, -⟩ := hB
  rw [bK_snoc hl, bm_new o1, bm_new o2, bm_new o3] at hR1
  refine hR1.junk (fun a ci _ f => ⟨rfl, rfl, rfl⟩) (fun a t N hk => ?_)
  have hne : a ≠ n + L := fun h => by
    subst h
    rw [bK_at (i := L) (κ := .inl ci) (by rw [← hl]; simp)] at hk
    cases hk
  unfold garr
  rw [ba_ne hne, ba_ne hne, ba_ne hne]
theorem b_newa {atype : ArrayType} {t : Nat} (hx : p.tables.exec = Jvm.exec) (hb : c.code = cc) (harr : (Cond.arrayClass (newarray.typeOf atype)).before args s = true) (hG : GC G s) (hB : BR G K I J X A B Q n L ks li lj lx la lb lq H) (hS : va_S (gA G) H0 H locs) (hz : G.2.2 ≤ H0.size) (ht3 : t < 3) (ht : (gtys G.2.1)[t]? = some (G.2.1 t, newarray.typeOf atype)) (hpr : ∀ C, newarray.typeOf atype ≠ .object C) (hdf : defaultValue (newarray.typeOf atype) = .int 0)
    {i : Int32} {N : Nat} (hn : ¬ i < 0) (hN : i.toNatClampNeg = N) (hbytes : N * componentBytes (newarray.typeOf atype) ≤ 536870912) (hcells : cells + 1 ≤ R.cells) (hslots : slots + N ≤ R.slots) (hdg : decode cc pc = .ok (.newarray atype, 2))
    (kk : ∀ (H1 : Heap), BR G K I J X A B Q n (L + 1) (ks ++ [.inr (t, N)]) li lj lx la lb lq H1 → va_S (gA G) H0 H1 locs →
      W p l e R s m args below meth c H1 locs (cells + 1) (slots + N) Z (F0 m (pc + 2) ls (.ref (n + L) :: rest))) : W p l e R s m args below meth c H locs cells slots Z (F0 m pc ls (.int i :: rest)) := by
  have hsz := hB.size (Nat.le_trans hz hS.1)
  refine g_newa hx hb harr hG hB.2.2.2 hS hz ht3 ht hpr hdf hn hN hbytes hcells hslots hdg fun q H1 hq hz1 hR1 hS1 => ?_
  have e : q = n + L := hq.trans hsz
  subst e
  refine kk H1 (hB.more ?_) hS1
  obtain ⟨-, hl, ⟨o1, o2, o3, o4, o5, o6⟩, -⟩ := hB
  rw [bK_snoc hl, show a_up (ba z0 A n L la) (n + L) (fun _ => (0 : Int32)) = ba z0 A n (L + 1) la from ba_new o4] at hR1
  have hk0 : bK K n (ks ++ [.inr (t, N)]) (n + L) = some (.inr (t, N)) := bK_at (i := L) (by rw [← hl]; simp)
  refine hR1.junk (fun a ci hk f => ?_) (fun a t2 N2 hk => ?_)
  · have hne : a ≠ n + L := fun h => by
      subst h
      rw [hk0] at hk
      cases hk
    exact ⟨bm_ne hne, bm_ne hne, bm_ne hne⟩
  · by_cases hne : a = n + L
    · subst hne
      rw [hk0] at hk
      cases hk
      match t, ht3 with
      | 0, _ => rfl
      | 1, _ => rfl
      | 2, _ => rfl
      | t + 3, h => omega
    · unfold garr
      rw [ba_ne hne, ba_ne hne, ba_ne hne]
theorem b_newal (hx : p.tables.exec = Jvm.exec) (hb : c.code = cc) (harr : (Cond.arrayClass (newarray.typeOf .long)).before args s = true) (hG : GC G s) (hB : BR G K I J X A B Q n L ks li lj lx la lb lq H) (hS : va_S (gA G) H0 H locs) (hz : G.2.2 ≤ H0.size)
    {i : Int32} {N : Nat} (hn : ¬ i < 0) (hN : i.toNatClampNeg = N) (hbytes : N * componentBytes (newarray.typeOf .long) ≤ 536870912) (hcells : cells + 1 ≤ R.cells) (hslots : slots + N ≤ R.slots) (hdg : decode cc pc = .ok (.newarray .long, 2))
    (kk : ∀ (H1 : Heap), BR G K I J X A B Q n (L + 1) (ks ++ [.inr (3, N)]) li lj lx la lb lq H1 → va_S (gA G) H0 H1 locs →
      W p l e R s m args below meth c H1 locs (cells + 1) (slots + N) Z (F0 m (pc + 2) ls (.ref (n + L) :: rest))) : W p l e R s m args below meth c H locs cells slots Z (F0 m pc ls (.int i :: rest)) := by
  have hsz := hB.size (Nat.le_trans hz hS.1)
  refine g_newal hx hb harr hG hB.2.2.2 hS hz hn hN hbytes hcells hslots hdg fun q H1 hq hz1 hR1 hS1 => ?_
  have e : q = n + L := hq.trans hsz
  subst e
  refine kk H1 (hB.more ?_) hS1
  obtain ⟨-, hl, ⟨o1, o2, o3, o4, o5, o6⟩, -⟩ := hB
  rw [bK_snoc hl, show a_up (ba z1 B n L lb) (n + L) (fun _ => (0 : Int64)) = ba z1 B n (L + 1) lb from ba_new o5] at hR1
  have hk0 : bK K n (ks ++ [.inr (3, N)]) (n + L) = some (.inr (3, N)) := bK_at (i := L) (by rw [← hl]; simp)
  refine hR1.junk (fun a ci hk f => ?_) (fun a t2 N2 hk => ?_)
  · have hne : a ≠ n + L := fun h => by
      subst h
      rw [hk0] at hk
      cases hk
    exact ⟨bm_ne hne, bm_ne hne, bm_ne hne⟩
  · by_cases hne : a = n + L
    · subst hne
      rw [hk0] at hk
      cases hk
      rfl
    · unfold garr
      rw [ba_ne hne, ba_ne hne, ba_ne hne]
theorem b_newq {t : Nat} (hx : p.tables.exec = Jvm.exec) (hb : c.code = cc) (hown : s.vm.findClass own = some m.cls) (hclink : (Cond.classLink own index C).before args s = true) (hover : va_AO C s) (hG : GC G s) (hB : BR G K I J X A B Q n L ks li lj lx la lb lq H) (hS : va_S (gA G) H0 H locs) (hz : G.2.2 ≤ H0.size) (ht : (gtys G.2.1)[t + 4]? = some (G.2.1 (t + 4), .object C))
    {i : Int32} {N : Nat} (hn : ¬ i < 0) (hN : i.toNatClampNeg = N) (hbytes : N * 4 ≤ 536870912) (hcells : cells + 1 ≤ R.cells) (hslots : slots + N ≤ R.slots) (hdg : decode cc pc = .ok (.anewarray index, 3))
    (kk : ∀ (H1 : Heap), BR G K I J X A B Q n (L + 1) (ks ++ [.inr (t + 4, N)]) li lj lx la lb lq H1 → va_S (gA G) H0 H1 locs →
      W p l e R s m args below meth c H1 locs (cells + 1) (slots + N) Z (F0 m (pc + 3) ls (.ref (n + L) :: rest))) : W p l e R s m args below meth c H locs cells slots Z (F0 m pc ls (.int i :: rest)) := by
  have hsz := hB.size (Nat.le_trans hz hS.1)
  refine g_newq hx hb hown hclink hover hG hB.2.2.2 hS hz ht hn hN hbytes hcells hslots hdg fun q H1 hq hz1 hR1 hS1 => ?_
  have e : q = n + L := hq.trans hsz
  subst e
  refine kk H1 (hB.more ?_) hS1
  obtain ⟨-, hl, ⟨o1, o2, o3, o4, o5, o6⟩, -⟩ := hB
  rw [bK_snoc hl, show a_up (ba z2 Q n L lq) (n + L) (fun _ => (none : Option Nat)) = ba z2 Q n (L + 1) lq from ba_new o6] at hR1
  have hk0 : bK K n (ks ++ [.inr (t + 4, N)]) (n + L) = some (.inr (t + 4, N)) := bK_at (i := L) (by rw [← hl]; simp)
  refine hR1.junk (fun a ci hk f => ?_) (fun a t2 N2 hk => ?_)
  · have hne : a ≠ n + L := fun h => by
      subst h
      rw [hk0] at hk
      cases hk
    exact ⟨bm_ne hne, bm_ne hne, bm_ne hne⟩
  · by_cases hne : a = n + L
    · subst hne
      rw [hk0] at hk
      cases hk
      rfl
    · unfold garr
      rw [ba_ne hne, ba_ne hne, ba_ne hne]
/-! fields and entries -/
theorem b_putFi {i k f : Nat} (hx : p.tables.exec = Jvm.exec) (hb : c.code = cc) (hts : ∀ w ∈ lw_all, w.before args s = true) (hown : s.vm.findClass own = some m.cls) (hin2 : meth.name = "<init>") (hG : GC G s) (hB : BR G K I J X A B Q n L ks li lj lx la lb lq H) (hS : va_S (gA G) H0 H locs) (hL : GFin own index ci k) (hf : fid ci k = f) (hs : ft ci k = 0) (hk : ks[i]? = some (.inl ci)) {v : Int32}
    (hd : parseFieldDescriptor (gT ci k).2.2.1 = some .int) (hdg : decode cc pc = .ok (.putfield index, 3))
    (kk : ∀ (H1 : Heap) (locs1 : List Loc), BR G K I J X A B Q n L ks ((f, i, v) :: li) lj lx la lb lq H1 → va_S (gA G) H0 H1 locs1 → W p l e R s m args below meth c H1 locs1 cells slots Z (F0 m (pc + 3) ls rest)) : W p l e R s m args below meth c H locs cells slots Z (F0 m pc ls (.int v :: .ref (n + i) :: rest)) := by
  obtain ⟨hk1, hi⟩ := hB.kind hk
  obtain ⟨hF, hl, ⟨o1, o2⟩, hR⟩ := hB
  exact g_putFi hx hb hts hown hin2 hG hR hS hL hf hs hk1 hd hdg fun H1 locs1 _ hR1 hS1 => kk H1 locs1 ⟨hF, hl, ⟨off_cons o1 hi, o2⟩, by rw [bm_put hi] at hR1; exact hR1⟩ hS1
theorem b_putFj {i k f : Nat} (hx : p.tables.exec = Jvm.exec) (hb : c.code = cc) (hts : ∀ w ∈ lw_all, w.before args s = true) (hown : s.vm.findClass own = some m.cls) (hin2 : meth.name = "<init>") (hG : GC G s) (hB : BR G K I J X A B Q n L ks li lj lx la lb lq H) (hS : va_S (gA G) H0 H locs) (hL : GFin own index ci k) (hf : fid ci k = f) (hs : ft ci k = 1) (hk : ks[i]? = some (.inl ci)) {v : Int64}
    (hd : parseFieldDescriptor (gT ci k).2.2.1 = some .long) (hdg : decode cc pc = .ok (.putfield index, 3))
    (kk : ∀ (H1 : Heap) (locs1 : List Loc), BR G K I J X A B Q n L ks li ((f, i, v) :: lj) lx la lb lq H1 → va_S (gA G) H0 H1 locs1 → W p l e R s m args below meth c H1 locs1 cells slots Z (F0 m (pc + 3) ls rest)) : W p l e R s m args below meth c H locs cells slots Z (F0 m pc ls (.long v :: .ref (n + i) :: rest)) := by
  obtain ⟨hk1, hi⟩ := hB.kind hk
  obtain ⟨hF, hl, ⟨o1, o2, o3⟩, hR⟩ := hB
  exact g_putFj hx hb hts hown hin2 hG hR hS hL hf hs hk1 hd hdg fun H1 locs1 _ hR1 hS1 => kk H1 locs1 ⟨hF, hl, ⟨o1, off_cons o2 hi, o3⟩, by rw [bm_put hi] at hR1; exact hR1⟩ hS1
theorem b_putFx {i k f : Nat} (hx : p.tables.exec = Jvm.exec) (hb : c.code = cc) (hts : ∀ w ∈ lw_all, w.before args s = true) (hown : s.vm.findClass own = some m.cls) (hin2 : meth.name = "<init>") (hG : GC G s) (hB : BR G K I J X A B Q n L ks li lj lx la lb lq H) (hS : va_S (gA G) H0 H locs) (hL : GFin own index ci k) (hf : fid ci k = f) (hs : ft ci k = 2) (hk : ks[i]? = some (.inl ci)) {v : Option Nat} {ty : FieldType}
    (hd : parseFieldDescriptor (gT ci k).2.2.1 = some ty) (hty : (∃ C, ty = .object C) ∨ ∃ t, ty = .array t) (hdg : decode cc pc = .ok (.putfield index, 3))
    (kk : ∀ (H1 : Heap) (locs1 : List Loc), BR G K I J X A B Q n L ks li lj ((f, i, v) :: lx) la lb lq H1 → va_S (gA G) H0 H1 locs1 → W p l e R s m args below meth c H1 locs1 cells slots Z (F0 m (pc + 3) ls rest)) : W p l e R s m args below meth c H locs cells slots Z (F0 m pc ls (va_rf v :: .ref (n + i) :: rest)) := by
  obtain ⟨hk1, hi⟩ := hB.kind hk
  obtain ⟨hF, hl, ⟨o1, o2, o3, o4⟩, hR⟩ := hB
  exact g_putFx hx hb hts hown hin2 hG hR hS hL hf hs hk1 hd hty hdg fun H1 locs1 _ hR1 hS1 => kk H1 locs1 ⟨hF, hl, ⟨o1, o2, off_cons o3 hi, o4⟩, by rw [bm_put hi] at hR1; exact hR1⟩ hS1
theorem b_puti {i f : Nat} (hx : p.tables.exec = Jvm.exec) (hb : c.code = cc) (hts : ∀ w ∈ lw_all, w.before args s = true) (hown : s.vm.findClass own = some m.cls) (hG : GC G s) (hB : BR G K I J X A B Q n L ks li lj lx la lb lq H) (hS : va_S (gA G) H0 H locs) (hL : GPi own index ci f) (hk : ks[i]? = some (.inl ci)) {v : Int32} (hdg : decode cc pc = .ok (.putfield index, 3))
    (kk : ∀ (H1 : Heap) (locs1 : List Loc), BR G K I J X A B Q n L ks ((f, i, v) :: li) lj lx la lb lq H1 → va_S (gA G) H0 H1 locs1 → W p l e R s m args below meth c H1 locs1 cells slots Z (F0 m (pc + 3) ls rest)) : W p l e R s m args below meth c H locs cells slots Z (F0 m pc ls (.int v :: .ref (n + i) :: rest)) := by
  obtain ⟨hk1, hi⟩ := hB.kind hk
  obtain ⟨hF, hl, ⟨o1, o2⟩, hR⟩ := hB
  exact g_puti hx hb hts hown hG hR hS hL hk1 hdg fun H1 locs1 hR1 hS1 => kk H1 locs1 ⟨hF, hl, ⟨off_cons o1 hi, o2⟩, by rw [bm_put hi] at hR1; exact hR1⟩ hS1
theorem b_putx {i f : Nat} (hx : p.tables.exec = Jvm.exec) (hb : c.code = cc) (hts : ∀ w ∈ lw_all, w.before args s = true) (hown : s.vm.findClass own = some m.cls) (hG : GC G s) (hB : BR G K I J X A B Q n L ks li lj lx la lb lq H) (hS : va_S (gA G) H0 H locs) (hL : GPx own index ci f) (hk : ks[i]? = some (.inl ci)) {v : Option Nat} (hdg : decode cc pc = .ok (.putfield index, 3))
    (kk : ∀ (H1 : Heap) (locs1 : List Loc), BR G K I J X A B Q n L ks li lj ((f, i, v) :: lx) la lb lq H1 → va_S (gA G) H0 H1 locs1 → W p l e R s m args below meth c H1 locs1 cells slots Z (F0 m (pc + 3) ls rest)) : W p l e R s m args below meth c H locs cells slots Z (F0 m pc ls (va_rf v :: .ref (n + i) :: rest)) := by
  obtain ⟨hk1, hi⟩ := hB.kind hk
  obtain ⟨hF, hl, ⟨o1, o2, o3, o4⟩, hR⟩ := hB
  exact g_putx hx hb hts hown hG hR hS hL hk1 hdg fun H1 locs1 hR1 hS1 => kk H1 locs1 ⟨hF, hl, ⟨o1, o2, off_cons o3 hi, o4⟩, by rw [bm_put hi] at hR1; exact hR1⟩ hS1
theorem b_iast {i N : Nat} {x j : Int32} {w : Nat → Int32} (hx : p.tables.exec = Jvm.exec) (hb : c.code = cc) (hG : GC G s) (hB : BR G K I J X A B Q n L ks li lj lx la lb lq H) (hS : va_S (gA G) H0 H locs) (hk : ks[i]? = some (.inr (0, N))) (hin : vp_in j N) (hw : (lka la i).getD z0 = w) (hdg : decode cc pc = .ok (.iastore, 1))
    (kk : ∀ (H1 : Heap) (locs1 : List Loc), BR G K I J X A B Q n L ks li lj lx ((i, upd w j.toNatClampNeg x) :: la) lb lq H1 → va_S (gA G) H0 H1 locs1 → W p l e R s m args below meth c H1 locs1 cells slots Z (F0 m (pc + 1) ls rest)) : W p l e R s m args below meth c H locs cells slots Z (F0 m pc ls (.int x :: .int j :: .ref (n + i) :: rest)) := by
  obtain ⟨hk1, hi⟩ := hB.kinr hk
  obtain ⟨hF, hl, ⟨o1, o2, o3, o4, o5⟩, hR⟩ := hB
  subst hw
  exact g_iast hx hb hG hR hS hk1 hin hdg fun H1 locs1 hR1 hS1 => kk H1 locs1 ⟨hF, hl, ⟨o1, o2, o3, offa_cons o4 hi, o5⟩, by rw [ba_at hi, ba_put hi] at hR1; exact hR1⟩ hS1
theorem b_aast {i N t v : Nat} {r : vw_C} {j : Int32} {w : Nat → Option Nat} (hx : p.tables.exec = Jvm.exec) (hb : c.code = cc) (hG : GC G s) (hB : BR G K I J X A B Q n L ks li lj lx la lb lq H) (hS : va_S (gA G) H0 H locs) (hk : ks[i]? = some (.inr (t + 4, N))) (ht : (gtys G.2.1)[t + 4]? = some (G.2.1 (t + 4), .object r.1)) (hc : gCl[ci]? = some r) (hv : ks[v]? = some (.inl ci)) (hin : vp_in j N) (hw : (lka lq i).getD z2 = w) (hdg : decode cc pc = .ok (.aastore, 1))
    (kk : ∀ (H1 : Heap) (locs1 : List Loc), BR G K I J X A B Q n L ks li lj lx la lb ((i, va_up w j.toNatClampNeg (some (n + v))) :: lq) H1 → va_S (gA G) H0 H1 locs1 → W p l e R s m args below meth c H1 locs1 cells slots Z (F0 m (pc + 1) ls rest)) : W p l e R s m args below meth c H locs cells slots Z (F0 m pc ls (.ref (n + v) :: .int j :: .ref (n + i) :: rest)) := by
  obtain ⟨hk1, hi⟩ := hB.kinr hk
  obtain ⟨hk2, -⟩ := hB.kind hv
  obtain ⟨hF, hl, ⟨o1, o2, o3, o4, o5, o6⟩, hR⟩ := hB
  subst hw
  exact g_aast hx hb hG hR hS hk1 ht hc hk2 hin hdg fun H1 locs1 hR1 hS1 => kk H1 locs1 ⟨hF, hl, ⟨o1, o2, o3, o4, o5, offa_cons o6 hi⟩, by rw [ba_at hi, ba_put hi] at hR1; exact hR1⟩ hS1
/-- a String constant is stored -/
theorem b_aastS {i N k : Nat} {j : Int32} {w : Nat → Option Nat} (hx : p.tables.exec = Jvm.exec) (hb : c.code = cc) (hG : GC G s) (hW : SW G s s.heap) (hB : BR G K I J X A B Q n L ks li lj lx la lb lq H) (hS : va_S (gA G) s.heap H locs) (hk : ks[i]? = some (.inr (8, N))) (hk9 : k < 29) (hin : vp_in j N) (hw : (lka lq i).getD z2 = w) (hdg : decode cc pc = .ok (.aastore, 1))
    (kk : ∀ (H1 : Heap) (locs1 : List Loc), BR G K I J X A B Q n L ks li lj lx la lb ((i, va_up w j.toNatClampNeg (some (aK G k))) :: lq) H1 → va_S (gA G) s.heap H1 locs1 → W p l e R s m args below meth c H1 locs1 cells slots Z (F0 m (pc + 1) ls rest)) : W p l e R s m args below meth c H locs cells slots Z (F0 m pc ls (.ref (aK G k) :: .int j :: .ref (n + i) :: rest)) := by
  obtain ⟨hk1, hi⟩ := hB.kinr hk
  obtain ⟨hF, hl, ⟨o1, o2, o3, o4, o5, o6⟩, hR⟩ := hB
  subst hw
  have hlt : j.toNatClampNeg < N := Nat.not_le.mp fun q => hin (Or.inr q)
  have h0 : ¬ j < 0 := fun q => hin (Or.inl q)
  obtain ⟨cellV, g1, g3, g2, -⟩ := ((hW.now hS).2.1 k hk9).1
  obtain ⟨kA, comp, k1, k2, k3, -⟩ := (hG.1.2 8 _ rfl).2
  have hcomp : comp = cellV.cls := Option.some.inj (k3.symm.trans g2)
  subst hcomp
  obtain ⟨kC, hkC, -⟩ := Vm.findClass_spec g2
  refine W.aast hx hb (hR.arr hk1) (fun q h => by cases h) (fun h => by cases h) k1 k2 rfl hkC ⟨h0, by show _ < (arrV _ _ _).slots.size; rw [arrV_size]; exact hlt⟩ g1 (fun q h => by rw [h] at g3; cases g3) hkC (va_asg _ _) rfl rfl hdg fun H1 e z oq => ?_
  have hR1 : RS G (bK K n ks) (bm 0 I n L li) (bm 0 J n L lj) (bm none X n L lx) (ba z0 A n L la) (ba z1 B n L lb) (a_up (ba z2 Q n L lq) (n + i) (va_up (ba z2 Q n L lq (n + i)) j.toNatClampNeg (some (aK G k)))) H1 := by
    refine g_put2 hR hk1 z oq ?_ (fun _ _ => rfl) (fun _ _ => rfl) (fun b hb => a_up_ne hb)
    rw [e]
    simp only [garr, a_up_self]
    rw [vp_cell_q, vp_cell_q, arrV_store]
    congr 2
    funext q
    by_cases hq : q = j.toNatClampNeg
    · subst hq
      simp [updV, va_up, va_rf]
    · simp [updV, va_up, hq]
  exact kk H1 _ ⟨hF, hl, ⟨o1, o2, o3, o4, o5, offa_cons o6 hi⟩, by rw [ba_at hi, ba_put hi] at hR1; exact hR1⟩ (hS.put z oq (hR.ge (by rw [hk1]; exact fun h => by cases h)))
theorem b_ldcS {k : Nat} {tx : String} (hx : p.tables.exec = Jvm.exec) (hb : c.code = cc) (hown : s.vm.findClass own = some m.cls) (hW : SW G s s.heap) (he : (own, index, tx, k) ∈ gS) (hdg : decode cc pc = .ok (.ldc index, 2))
    (kk : W p l e R s m args below meth c H locs cells slots Z (F0 m (pc + 2) ls (.ref (aK G k) :: rest))) : W p l e R s m args below meth c H locs cells slots Z (F0 m pc ls rest) :=
  va_ldcS hx hb hown (hW.1 _ he) hdg kk
end BROW
/-! an array of arrays; Object's and our own constructors -/
theorem outerC_arr (c : ClassId) (N h0 : Nat) : ∀ i, Jvm.Free.Multi.outerC c N h0 i = arrV c N (fun j => if j < i then .ref (h0 + 1 + j) else .null)
  | 0 => by
    show ({ cls := c, slots := Array.replicate N .null, vm := .none } : Cell) = _
    rw [arrV_new]
    congr 1
  | i + 1 => by
    show (Jvm.Free.Multi.outerC c N h0 i).setSlot i (.ref (h0 + 1 + i)) = _
    rw [outerC_arr c N h0 i, arrV_store]
    congr 1
    funext j
    unfold updV
    by_cases h : j = i
    · subst h
      rw [if_pos rfl, if_pos (Nat.lt_succ_self _)]
    · rw [if_neg h]
      show (if j < i then Value.ref (h0 + 1 + j) else Value.null) = _
      by_cases h2 : j < i
      · rw [if_pos h2, if_pos (by omega)]
      · rw [if_neg h2, if_neg (by omega)]
theorem arrV_eq {c : ClassId} {N : Nat} {f g : Nat → Value} (h : ∀ j, j < N → f j = g j) : arrV c N f = arrV c N g := by
  unfold arrV
  congr 1
  apply Array.ext
  · simp
  · intro j h1 h2
    simp only [Array.getElem_ofFn]
    exact h j (by simpa using h1)
theorem RS.grow {G : gG} {K K' : gK} {I I' : gI} {J J' : gJ} {X X' : gX} {A A' : gI} {B B' : gJ} {Q Q' : gX} {H H1 : Heap} {q M : Nat} (h : RS G K I J X A B Q H) (hz : G.2.2 ≤ q) (hq : H.size = q) (hz1 : H1.size = q + M) (o1 : ∀ x, x < q → H1[x]? = H[x]?)
    (eK : ∀ a, a < q → K' a = K a) (e1 : ∀ f a, a < q → I' f a = I f a) (e2 : ∀ f a, a < q → J' f a = J f a) (e3 : ∀ f a, a < q → X' f a = X f a) (e4 : ∀ a, a < q → A' a = A a) (e5 : ∀ a, a < q → B' a = B a) (e6 : ∀ a, a < q → Q' a = Q a)
    (hn : ∀ a, q + M ≤ a → K' a = none) (ha : ∀ a, q ≤ a → a < q + M → rs_at G K' I' J' X' A' B' Q' H1 a ∧ K' a ≠ none) : RS G K' I' J' X' A' B' Q' H1 := by
  intro a
  by_cases h1 : a < q
  · have h2 := (h a).1.kept (H1 := H1) (I' := I') (J' := J') (X' := X') (A' := A') (B' := B') (Q' := Q') (o1 a h1) (fun f => e1 f a h1) (fun f => e2 f a h1) (fun f => e3 f a h1) (e4 a h1) (e5 a h1) (e6 a h1)
    refine ⟨?_, fun hk => (h a).2.1 (by rw [← eK a h1]; exact hk), fun g1 g2 => by rw [eK a h1]; exact (h a).2.2 g1 (by omega)⟩
    unfold rs_at at h2 ⊢
    rw [eK a h1]
    exact h2
  · by_cases h2 : a < q + M
    · exact ⟨(ha a (by omega) h2).1, fun _ => by omega, fun _ _ => (ha a (by omega) h2).2⟩
    · have h3 := hn a (by omega)
      refine ⟨?_, fun hk => absurd h3 hk, fun _ g2 => by omega⟩
      unfold rs_at
      rw [h3]
      trivial
theorem bK_pre {K : gK} {n a : Nat} {l l2 : List (Nat ⊕ (Nat × Nat))} (h : a < n + l.length) : bK K n (l ++ l2) a = bK K n l a := by
  unfold bK
  by_cases h1 : n ≤ a
  · rw [if_pos h1, if_pos h1, List.getElem?_append_left (show a - n < l.length by omega)]
  · rw [if_neg h1, if_neg h1]
theorem bm_pre {α : Type} {d : α} {M : Nat → Nat → α} {n L L2 f a : Nat} {l : List (Nat × Nat × α)} (h : a < n + L) : bm d M n (L + L2) l f a = bm d M n L l f a := by
  unfold bm
  by_cases h1 : n ≤ a ∧ a < n + L
  · rw [if_pos h1, if_pos ⟨h1.1, by omega⟩]
  · rw [if_neg h1, if_neg (by omega)]
theorem ba_pre {α : Type} {d : α} {M : Nat → α} {n L L2 a : Nat} {l : List (Nat × α)} (h : a < n + L) : ba d M n (L + L2) l a = ba d M n L l a := by
  unfold ba
  by_cases h1 : n ≤ a ∧ a < n + L
  · rw [if_pos h1, if_pos ⟨h1.1, by omega⟩]
  · rw [if_neg h1, if_neg (by omega)]
def gridq (b : Nat) : Nat → Option Nat := fun j => if j < 12 then some (b + j) else none
theorem shf_off {α : Type} {L L2 : Nat} {l l2 : List (Nat × Nat × α)} (h : ∀ e ∈ l, e.2.1 < L) (h2 : ∀ e ∈ l2, e.2.1 < L2) : ∀ e ∈ shf L l2 ++ l, e.2.1 < L + L2 := by
  intro e he
  rcases List.mem_append.mp he with he | he
  · obtain ⟨x, hx, rfl⟩ := List.mem_map.mp he
    have := h2 x hx
    show L + x.2.1 < L + L2
    omega
  · have := h e he
    omega
theorem sha_off {α : Type} {L L2 : Nat} {l l2 : List (Nat × α)} (h : ∀ e ∈ l, e.1 < L) (h2 : ∀ e ∈ l2, e.1 < L2) : ∀ e ∈ sha L l2 ++ l, e.1 < L + L2 := by
  intro e he
  rcases List.mem_append.mp he with he | he
  · obtain ⟨x, hx, rfl⟩ := List.mem_map.mp he
    have := h2 x hx
    show L + x.1 < L + L2
    omega
  · have := h e he
    omega
section BROW2
variable {p : Program} {l : Launch} {e : Env} {R : Room} {s : State} {m : MethodId} {args : Array Value} {below : List Frame} {meth : Method} {c : Code} {H H0 : Heap} {locs : List Loc} {cells slots : Nat} {Z : State → Prop}
variable {cc : ByteArray} {pc : Nat} {ls : Array Slot} {rest : List Value} {index ci : Nat} {own C : String}
variable {G : gG} {K : gK} {I : gI} {J : gJ} {X : gX} {A : gI} {B : gJ} {Q : gX} {n L : Nat} {ks : List (Nat ⊕ (Nat × Nat))} {li : List (Nat × Nat × Int32)} {lj : List (Nat × Nat × Int64)} {lx : List (Nat × Nat × Option Nat)} {la : List (Nat × (Nat → Int32))} {lb : List (Nat × (Nat → Int64))} {lq : List (Nat × (Nat → Option Nat))}
theorem b_mna (hx : p.tables.exec = Jvm.exec) (hb : c.code = cc) (hown : s.vm.findClass own = some m.cls) (hclink : (Cond.classLink own index ("[" ++ (FieldType.array .int).toString)).before args s = true) (hover : (Cond.arrayOver (.array .int)).before args s = true) (harr : (Cond.arrayClass .int).before args s = true)
    (hG : GC G s) (hB : BR G K I J X A B Q n L ks li lj lx la lb lq H) (hS : va_S (gA G) H0 H locs) (hz : G.2.2 ≤ H0.size) (hcells : cells + 13 ≤ R.cells) (hslots : slots + 372 ≤ R.slots) (hdg : decode cc pc = .ok (.multianewarray index 2, 4))
    (kk : ∀ (H1 : Heap), BR G K I J X A B Q n (L + 13) (ks ++ (.inr (9, 12) :: List.replicate 12 (.inr (0, 30)))) li lj lx la lb ((L, gridq (n + L + 1)) :: lq) H1 → va_S (gA G) H0 H1 locs →
      W p l e R s m args below meth c H1 locs (cells + 13) (slots + 372) Z (F0 m (pc + 4) ls (.ref (n + L) :: rest))) : W p l e R s m args below meth c H locs cells slots Z (F0 m pc ls (.int 30 :: .int 12 :: rest)) := by
  have hsz := hB.size (Nat.le_trans hz hS.1)
  intro T hT Xs
  have e12 : (12 : Int32).toNatClampNeg = 12 := by decide
  have e30 : (30 : Int32).toNatClampNeg = 30 := by decide
  obtain ⟨vm₁, cA, comp, hW1, hfA, hfC, -, -, X1, st⟩ := Xs.multianewarray2F hx hown hclink hover harr (g := F0 m pc ls (.int 30 :: .int 12 :: rest)) rfl (by rw [hb]; exact hdg) (n := 12) (k := 30) (rest := rest) rfl (by decide) (by decide) (by decide) (by decide) (by decide) rfl rfl (by rw [e12]; omega) (by rw [e12, e30]; omega)
  rw [e12, e30] at X1 st
  obtain ⟨f1, f2, -, -⟩ := Jvm.Free.Multi.fill_facts (T.setVm vm₁) cA comp 12 30 (defaultValue .int) 12
  have fo := fun (a : Nat) (ha : a < H.size) => Jvm.Free.Multi.fill_old (T.setVm vm₁) cA comp 12 30 (defaultValue .int) (a := a) (by rw [← hT] at ha; exact ha) 12
  have fi := Jvm.Free.Multi.fill_inner (T.setVm vm₁) cA comp 12 30 (defaultValue .int) 12
  have hTh : (T.setVm vm₁).heap = H := hT
  rw [hTh] at f1 f2 fo fi
  generalize hU : Jvm.Free.Multi.fill (T.setVm vm₁) cA comp 12 30 (defaultValue .int) 12 = U1 at X1 st f1 f2 fo fi
  have hcA : cA = G.2.1 9 := Option.some.inj (hfA.symm.trans (hG.1.2 9 _ rfl).2)
  have hcomp : comp = G.2.1 0 := Option.some.inj (hfC.symm.trans (hG.1.2 0 _ rfl).2)
  subst hcA hcomp
  obtain ⟨hF, hl, ⟨o1, o2, o3, o4, o5, o6⟩, hR⟩ := hB
  have hlen : (ks ++ ((.inr (9, 12) : Nat ⊕ (Nat × Nat)) :: List.replicate 12 (.inr (0, 30)))).length = L + 13 := by rw [List.length_append, hl]; rfl
  have kat : ∀ i, i < 12 → bK K n (ks ++ (.inr (9, 12) :: List.replicate 12 (.inr (0, 30)))) (n + L + 1 + i) = some (.inr (0, 30)) := by
    intro i hi
    rw [show n + L + 1 + i = n + (L + 1 + i) by omega]
    refine bK_at ?_
    rw [List.getElem?_append_right (by omega), hl, show L + 1 + i - L = i + 1 by omega, List.getElem?_cons_succ, List.getElem?_replicate, if_pos hi]
  have k0 : bK K n (ks ++ (.inr (9, 12) :: List.replicate 12 (.inr (0, 30)))) (n + L) = some (.inr (9, 12)) := by
    refine bK_at ?_
    rw [List.getElem?_append_right (by omega), hl, Nat.sub_self]
    rfl
  have hR1 : RS G (bK K n (ks ++ (.inr (9, 12) :: List.replicate 12 (.inr (0, 30))))) (bm 0 I n (L + 13) li) (bm 0 J n (L + 13) lj) (bm none X n (L + 13) lx) (ba z0 A n (L + 13) la) (ba z1 B n (L + 13) lb) (ba z2 Q n (L + 13) ((L, gridq (n + L + 1)) :: lq)) U1.heap := by
    refine hR.grow (q := n + L) (M := 13) (by have := hF.1; omega) hsz (by rw [f1, hsz]) (fun x hx => fo x (by rw [hsz]; exact hx)) (fun a ha => bK_pre (by rw [hl]; exact ha)) (fun f a ha => bm_pre ha) (fun f a ha => bm_pre ha) (fun f a ha => bm_pre ha) (fun a ha => ba_pre ha) (fun a ha => ba_pre ha) (fun a ha => ?_) (fun a ha => ?_) (fun a h1 h2 => ?_)
    · rw [← ba_put (l := lq) (v := gridq (n + L + 1)) (show L < L + 13 by omega), a_up_ne (by omega)]
      exact ba_pre ha
    · rw [bK_ge (by rw [hlen]; omega)]
      exact hF.2.1 a (by omega)
    · by_cases h3 : a = n + L
      · subst h3
        refine ⟨?_, by rw [k0]; exact fun h => by cases h⟩
        unfold rs_at
        rw [k0]
        show U1.heap[n + L]? = some (vp_cell (G.2.1 9) (12, .inr (.inr (.inr (.inr (ba z2 Q n (L + 13) ((L, gridq (n + L + 1)) :: lq) (n + L)))))))
        rw [← hsz, f2, outerC_arr, vp_cell_q, hsz]
        congr 1
        refine arrV_eq fun j hj => ?_
        rw [← ba_put (l := lq) (v := gridq (n + L + 1)) (show L < L + 13 by omega), a_up_self, if_pos hj]
        unfold gridq
        rw [if_pos hj]
        rfl
      · obtain ⟨i, rfl⟩ : ∃ i, a = n + L + 1 + i := ⟨a - (n + L + 1), by omega⟩
        have hi : i < 12 := by omega
        refine ⟨?_, by rw [kat i hi]; exact fun h => by cases h⟩
        unfold rs_at
        rw [kat i hi]
        show U1.heap[n + L + 1 + i]? = some (vp_cell (G.2.1 0) (30, .inl (ba z0 A n (L + 13) la (n + L + 1 + i))))
        have e1 : ba z0 A n (L + 13) la (n + L + 1 + i) = z0 := by
          rw [show n + L + 1 + i = n + (L + 1 + i) by omega, ba_at (by omega), lka_none o4 (by omega)]
          rfl
        rw [← hsz, fi i hi, hsz, e1, vp_cell_i]
        show some ({ cls := _, slots := Array.replicate 30 (.int 0), vm := .none } : Cell) = _
        rw [arrV_new]
        rfl
  obtain ⟨t, a1, b1⟩ := kk U1.heap ⟨hF, hlen, ⟨fun e h => by have := o1 e h; omega, fun e h => by have := o2 e h; omega, fun e h => by have := o3 e h; omega, fun e h => by have := o4 e h; omega, fun e h => by have := o5 e h; omega, List.forall_mem_cons.mpr ⟨by show L < L + 13; omega, fun e h => by have := o6 e h; omega⟩⟩, hR1⟩ ⟨Nat.le_trans hS.1 (by rw [f1]; omega), fun q h1 h2 => (fo q (Nat.lt_of_lt_of_le h1 hS.1)).trans (hS.2.1 q h1 h2), hS.2.2⟩ U1 rfl X1
  refine ⟨t, st t ?_, b1⟩
  rw [hT, hsz]
  exact a1
theorem b_obj {a : Nat} (hx : p.tables.exec = Jvm.exec) (hb : c.code = cc) (hown : s.vm.findClass own = some m.cls) (hts : ∀ w ∈ lw_all, w.before args s = true) (hml : c.maxLocals = ls.size) (hlink : Cond.methodLink own index ⟨"java/lang/Object", "<init>", "()V"⟩ ∈ lw_all) (hframes : 1 ≤ R.frames) (hlocals : (rest.map fun v => v.category).sum + 12 ≤ R.locals) (hdg : decode cc pc = .ok (.invokespecial index, 3))
    (kk : W p l e R s m args below meth c H locs cells slots Z (F0 m (pc + 3) ls rest)) : W p l e R s m args below meth c H locs cells slots Z (F0 m pc ls (.ref a :: rest)) :=
  W.objInit hx hb hown (hts _ hlink) (hts _ q141) (hts _ q142) rfl hml.symm rfl hdg hframes (by show 2 * 0 + _ + _ ≤ _; omega) kk
/-- a constructor's call on the object that was made last: what it makes stands behind it -/
theorem b_cI {nL maxL nA mc ms L2 : Nat} {code : ByteArray} {y : MethodName} {st0 As : List Value} {rm : Nat × Nat} {ks0 ks2 ks' : List (Nat ⊕ (Nat × Nat))} {li2 li' : List (Nat × Nat × Int32)} {lj2 lj' : List (Nat × Nat × Int64)} {lx2 lx' : List (Nat × Nat × Option Nat)} {la2 la' : List (Nat × (Nat → Int32))} {lb2 lb' : List (Nat × (Nat → Int64))} {lq2 lq' : List (Nat × (Nat → Option Nat))}
    (S : CallFix p m c cc nL s args lw_all own) (hG : GC G s) (hB : BR G K I J X A B Q n (L + 1) ks li lj lx la lb lq H) (hS : va_S (gA G) H0 H locs) (hks : ks = ks0 ++ [.inl ci]) (ho : (∀ e ∈ li, e.2.1 < L) ∧ (∀ e ∈ lj, e.2.1 < L) ∧ (∀ e ∈ lx, e.2.1 < L) ∧ (∀ e ∈ la, e.1 < L) ∧ (∀ e ∈ lb, e.1 < L) ∧ ∀ e ∈ lq, e.1 < L)
    (hM : ∀ (K : gK) (I : gI) (J : gJ) (X : gX) (A : gI) (B : gJ) (Q : gX), fresh G K (n + L) → GMet l y code maxL none rm.1 rm.2 G (.ref (n + L) :: As) (bK K (n + L) [.inl ci]) (bm 0 I (n + L) 1 []) (bm 0 J (n + L) 1 []) (bm none X (n + L) 1 []) (ba z0 A (n + L) 1 []) (ba z1 B (n + L) 1 []) (ba z2 Q (n + L) 1 []) none (bK K (n + L) ks2) (bm 0 I (n + L) L2 li2) (bm 0 J (n + L) L2 lj2) (bm none X (n + L) L2 lx2) (ba z0 A (n + L) L2 la2) (ba z1 B (n + L) L2 lb2) (ba z2 Q (n + L) L2 lq2) mc ms)
    (cw : CallB R s args own index y code maxL none (ws_ y code maxL none) ({ frames := rm.1, cells := mc, slots := ms, locals := rm.2 }) mc ms nA ∧ y.name = "<init>" ∧ (Cond.instanceMethod y).before args s = true)
    (hn : As.length = nA) (hsize : ls.size = nL) (hW : (rest.map fun v => v.category).sum ≤ 8) (hdg : decode cc pc = .ok (.invokespecial index, 3)) (hf : cells + mc ≤ R.cells ∧ slots + ms ≤ R.slots) (hstack : st0 = As.reverse ++ .ref (n + L) :: rest)
    (h2 : ks2.length = L2) (ho2 : (∀ e ∈ li2, e.2.1 < L2) ∧ (∀ e ∈ lj2, e.2.1 < L2) ∧ (∀ e ∈ lx2, e.2.1 < L2) ∧ (∀ e ∈ la2, e.1 < L2) ∧ (∀ e ∈ lb2, e.1 < L2) ∧ ∀ e ∈ lq2, e.1 < L2)
    (ek : ks0 ++ ks2 = ks') (ei : shf L li2 ++ li = li') (ej : shf L lj2 ++ lj = lj') (ex : shf L lx2 ++ lx = lx') (ea : sha L la2 ++ la = la') (eb : sha L lb2 ++ lb = lb') (eq : sha L lq2 ++ lq = lq')
    (kk : ∀ (H1 : Heap) (locs1 : List Loc), BR G K I J X A B Q n (L + L2) ks' li' lj' lx' la' lb' lq' H1 → va_S (gA G) H0 H1 locs1 → W p l e R s m args below meth c H1 locs1 (cells + mc) (slots + ms) Z (F0 m (pc + 3) ls rest)) : W p l e R s m args below meth c H locs cells slots Z (F0 m pc ls st0) := by
  subst hks ek ei ej ex ea eb eq
  obtain ⟨hF, hl, -, hR⟩ := hB
  have hl0 : ks0.length = L := by
    rw [List.length_append] at hl
    exact Nat.succ.inj hl
  obtain ⟨o1, o2, o3, o4, o5, o6⟩ := ho
  obtain ⟨p1, p2, p3, p4, p5, p6⟩ := ho2
  rw [← bK_app hl0, ← show bm 0 (bm 0 I n L li) (n + L) 1 [] = bm 0 I n (L + 1) li from bm_app o1, ← show bm 0 (bm 0 J n L lj) (n + L) 1 [] = bm 0 J n (L + 1) lj from bm_app o2, ← show bm none (bm none X n L lx) (n + L) 1 [] = bm none X n (L + 1) lx from bm_app o3, ← show ba z0 (ba z0 A n L la) (n + L) 1 [] = ba z0 A n (L + 1) la from ba_app o4, ← show ba z1 (ba z1 B n L lb) (n + L) 1 [] = ba z1 B n (L + 1) lb from ba_app o5, ← show ba z2 (ba z2 Q n L lq) (n + L) 1 [] = ba z2 Q n (L + 1) lq from ba_app o6] at hR
  refine g_cI S hG hR hS (hM _ _ _ _ _ _ _ (hF.bK hl0)) cw hn hsize hW hdg hf hstack fun H1 locs1 hR1 hS1 => kk H1 locs1 ⟨hF, by rw [List.length_append, hl0, h2], ⟨?_, ?_, ?_, ?_, ?_, ?_⟩, ?_⟩ hS1
  · exact shf_off o1 p1
  · exact shf_off o2 p2
  · exact shf_off o3 p3
  · exact sha_off o4 p4
  · exact sha_off o5 p5
  · exact sha_off o6 p6
  · rw [bK_app hl0, bm_app o1, bm_app o2, bm_app o3, ba_app o4, ba_app o5, ba_app o6] at hR1
    exact hR1
end BROW2
