set_option maxRecDepth 100000
/-! the pieces, over the values that they speak of -/
def pTape (l1 l14 : Int32) (t1 t14 : Nat → Int32) : Prop := ∃ (n : Nat) (b : Nat → Nat), n ≤ 740 ∧ l1 = nI n ∧ l14 = nI n ∧ TP b t1 t14
/-- a row of answers kept: so many places, alike -/
def pKept (N : Nat) (m1 m14 : Int32) (a1 a14 : Nat → Int32) : Prop := ∃ m : Nat, m ≤ N ∧ m1 = nI m ∧ m14 = nI m ∧ ∀ i, i < m → a1 i = a14 i
def pRowBy (has : Int32) (k1 k14 : Nat → Int32) : Prop := (has = 0 ∧ ∀ i, i < 6 → k14 i = -1) ∨ (has = 1 ∧ ∀ i, i < 6 → k1 i = k14 i)
def pOut (has o1 o14 : Int32) : Prop := (has = 0 ∧ o14 = -1) ∨ (has = 1 ∧ o1 = o14)
