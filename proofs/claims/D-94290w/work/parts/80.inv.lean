/-! the plain law: what holds between the two at each step of the script (z: PailRow, z + 126: PailRowModel, z + 171: the law's array) -/
set_option maxRecDepth 100000
/-- the objects that never move, and those like them -/
def ISx (z : Nat) (K : gK) (X : gX) (Q : gX) : Prop :=
  (K (z + 2) = some (.inl 1) ∧ X 4 z = some (z + 2)) ∧ (K (z + 14) = some (.inl 5) ∧ X 10 z = some (z + 14) ∧ X 507 (z + 14) = some z ∧ X 509 (z + 14) = some z) ∧ (K (z + 15) = some (.inl 6) ∧ X 11 z = some (z + 15) ∧ X 607 (z + 15) = some z ∧ X 609 (z + 15) = some z) ∧
  (Sh K X (z + 123) 10 rows10 ∧ X 50 z = some (z + 123) ∧ X 1007 (z + 123) = some z ∧ X 1010 (z + 123) = some z) ∧ (Sh K X (z + 80) 9 rows9 ∧ X 35 z = some (z + 80)) ∧ (Sh K X (z + 114) 9 rows9 ∧ X 45 z = some (z + 114)) ∧ (Sh K X (z + 38) 7 rows7 ∧ X 14 z = some (z + 38)) ∧ (Sh K X (z + 65) 8 rows8 ∧ X 16 z = some (z + 65)) ∧
  (∀ j, j < 12 → K (z + 47 + j) = some (.inr (0, 30)) ∧ Q (z + 46) j = some (z + 47 + j)) ∧ (∀ y, K y = some (.inl 3) → Sh K X y 3 rows3) ∧
  (∀ j s, j < 21 → Q (z + 90) j = some s → z + 172 ≤ s ∧ Sh K X s 9 rows9) ∧ (∀ i j s, i < 21 → j < 21 → Q (z + 90) i = some s → Q (z + 90) j = some s → i = j)
def IS (z : Nat) (K : gK) (X : gX) (Q : gX) : Prop := (Sh K X z 0 rows0 ∧ Sh K X (z + 126) 11 rows11 ∧ K (z + 171) = some (.inr (3, 1))) ∧ (K (z + 7) = some (.inl 2) ∧ X 9 z = some (z + 7)) ∧ (Sh K X (z + 16) 7 rows7 ∧ X 13 z = some (z + 16)) ∧ (Sh K X (z + 60) 8 rows8 ∧ X 15 z = some (z + 60)) ∧ (Sh K X (z + 85) 9 rows9 ∧ X 36 z = some (z + 85)) ∧ ((Sh K X (z + 92) 9 rows9 ∧ Sh K X (z + 97) 9 rows9 ∧ Sh K X (z + 102) 9 rows9 ∧ Sh K X (z + 107) 9 rows9) ∧ Q (z + 91) 0 = some (z + 92) ∧ Q (z + 91) 1 = some (z + 97) ∧ Q (z + 91) 2 = some (z + 102) ∧ Q (z + 91) 3 = some (z + 107)) ∧ (∀ j, j < 12 → K (z + 25 + j) = some (.inr (0, 30)) ∧ Q (z + 24) j = some (z + 25 + j)) ∧ ISx z K X Q
/-- the fields of references that IS speaks of -/
def ISf : List Nat := (rows0 ++ rows11 ++ rows7 ++ rows8 ++ rows9 ++ rows3 ++ rows10).map (fun q => q.1) ++ [9, 13, 15, 36, 4, 10, 507, 509, 11, 607, 609, 50, 1007, 1010, 35, 45, 14, 16]
theorem Sh.same {K : gK} {X X' : gX} {a ci : Nat} {rows : List (Nat × Nat × Nat × Nat)} (h : Sh K X a ci rows) (e : ∀ q ∈ rows, X' q.1 a = X q.1 a) : Sh K X' a ci rows :=
  ⟨h.1, fun k q hq => ⟨(h.2 k q hq).1, (e q (List.mem_of_getElem? hq)).trans (h.2 k q hq).2⟩⟩
theorem IS_same {z : Nat} {K : gK} {X X' : gX} {Q : gX} (h : IS z K X Q) (e : ∀ f ∈ ISf, ∀ a, K a ≠ none → X' f a = X f a) : IS z K X' Q := by
  have hr : ∀ (rows : List (Nat × Nat × Nat × Nat)), (∀ q ∈ rows, q.1 ∈ ISf) → ∀ {a ci : Nat}, Sh K X a ci rows → Sh K X' a ci rows := fun rows hq a ci hs => hs.same fun q hm => e q.1 (hq q hm) a (by rw [hs.1]; exact fun h => nomatch h)
  have m : ∀ {r : List (Nat × Nat × Nat × Nat)} {q : Nat × Nat × Nat × Nat}, q ∈ r → (∀ x, x ∈ r → x ∈ rows0 ++ rows11 ++ rows7 ++ rows8 ++ rows9 ++ rows3 ++ rows10) → q.1 ∈ ISf := fun hq hs => List.mem_append_left _ (List.mem_map.mpr ⟨_, hs _ hq, rfl⟩)
  have r0 := fun {a ci} => @hr rows0 (fun q hq => m hq fun x hx => by simp only [List.mem_append]; simp [hx]) a ci
  have r11 := fun {a ci} => @hr rows11 (fun q hq => m hq fun x hx => by simp only [List.mem_append]; simp [hx]) a ci
  have r7 := fun {a ci} => @hr rows7 (fun q hq => m hq fun x hx => by simp only [List.mem_append]; simp [hx]) a ci
  have r8 := fun {a ci} => @hr rows8 (fun q hq => m hq fun x hx => by simp only [List.mem_append]; simp [hx]) a ci
  have r9 := fun {a ci} => @hr rows9 (fun q hq => m hq fun x hx => by simp only [List.mem_append]; simp [hx]) a ci
  have r3 := fun {a ci} => @hr rows3 (fun q hq => m hq fun x hx => by simp only [List.mem_append]; simp [hx]) a ci
  have r10 := fun {a ci} => @hr rows10 (fun q hq => m hq fun x hx => by simp only [List.mem_append]; simp [hx]) a ci
  have x : ∀ f ∈ [9, 13, 15, 36, 4, 10, 507, 509, 11, 607, 609, 50, 1007, 1010, 35, 45, 14, 16], ∀ a, K a ≠ none → X' f a = X f a := fun f hf => e f (List.mem_append_right _ hf)
  obtain ⟨⟨a1, a2, a3⟩, ⟨b1, b2⟩, ⟨c1, c2⟩, ⟨d1, d2⟩, ⟨e1, e2⟩, ⟨⟨f1, f2, f3, f4⟩, f5⟩, g, ⟨i1, i2⟩, ⟨j1, j2, j3, j4⟩, ⟨k1, k2, k3, k4⟩, ⟨l1, l2, l3, l4⟩, ⟨m1, m2⟩, ⟨n1, n2⟩, ⟨o1, o2⟩, ⟨p1, p2⟩, q1, q2, q3, q4⟩ := h
  have kz : K z ≠ none := by rw [a1.1]; exact fun h => nomatch h
  have k14 : K (z + 14) ≠ none := by rw [j1]; exact fun h => nomatch h
  have k15 : K (z + 15) ≠ none := by rw [k1]; exact fun h => nomatch h
  have k123 : K (z + 123) ≠ none := by rw [l1.1]; exact fun h => nomatch h
  exact ⟨⟨r0 a1, r11 a2, a3⟩, ⟨b1, (x 9 (by decide) z kz).trans b2⟩, ⟨r7 c1, (x 13 (by decide) z kz).trans c2⟩, ⟨r8 d1, (x 15 (by decide) z kz).trans d2⟩, ⟨r9 e1, (x 36 (by decide) z kz).trans e2⟩, ⟨⟨r9 f1, r9 f2, r9 f3, r9 f4⟩, f5⟩, g, ⟨i1, (x 4 (by decide) z kz).trans i2⟩, ⟨j1, (x 10 (by decide) z kz).trans j2, (x 507 (by decide) _ k14).trans j3, (x 509 (by decide) _ k14).trans j4⟩, ⟨k1, (x 11 (by decide) z kz).trans k2, (x 607 (by decide) _ k15).trans k3, (x 609 (by decide) _ k15).trans k4⟩, ⟨r10 l1, (x 50 (by decide) z kz).trans l2, (x 1007 (by decide) _ k123).trans l3, (x 1010 (by decide) _ k123).trans l4⟩, ⟨r9 m1, (x 35 (by decide) z kz).trans m2⟩, ⟨r9 n1, (x 45 (by decide) z kz).trans n2⟩, ⟨r7 o1, (x 14 (by decide) z kz).trans o2⟩, ⟨r8 p1, (x 16 (by decide) z kz).trans p2⟩, q1, fun y hy => r3 (q2 y hy), fun j s hj hs => ⟨(q3 j s hj hs).1, r9 (q3 j s hj hs).2⟩, q4⟩
theorem IS_ov {z : Nat} {K : gK} {X : gX} {Q : gX} (h : IS z K X Q) (l : List (Nat × Nat × Option Nat)) (h0 : ISf.all (fun f => ovn l f) = true) : IS z K (ov X l) Q :=
  IS_same h fun f hf a _ => by rw [ov_no (List.all_eq_true.mp h0 f hf)]
/-- the String arrays -/
def StrQ (adS : Nat → Nat) (z : Nat) (Q : gX) : Prop := (∀ j, j < 10 → Q (z + 3) j = some (adS (0 + j))) ∧ (∀ j, j < 4 → Q (z + 4) j = some (adS (10 + j))) ∧ (∀ j, j < 5 → Q (z + 5) j = some (adS (14 + j))) ∧ (∀ j, j < 10 → Q (z + 6) j = some (adS (19 + j))) ∧ (∀ j, j < 5 → Q (z + 124) j = some (adS (24 + j)))
/-- the last fire's cells -/
def pFire (K : gK) (i304 i305 : Nat → Int32) (has : Int32) (xy : Option Nat) (fu we bu : Nat → Int32) (was fc fr : Int32) (cell : Nat → Int32) : Prop :=
  (has = 0 ∧ was = 0) ∨ (has = 1 ∧ was = 1 ∧ ∃ y C R : Nat, xy = some y ∧ K y = some (.inl 3) ∧ C ≤ 8 ∧ R ≤ 8 ∧ i304 y = nI C ∧ i305 y = nI R ∧ fc = nI C ∧ fr = nI R ∧ ∀ r c, r < R → c < C → fu (8 * r + c) = cell (3 * (C * r + c)) ∧ ((bu (8 * r + c) = 0 ∧ cell (3 * (C * r + c) + 1) = 0) ∨ (bu (8 * r + c) = 1 ∧ cell (3 * (C * r + c) + 1) = 1)) ∧ we (8 * r + c) = cell (3 * (C * r + c) + 2))
def Inv (adS : Nat → Nat) (z : Nat) (K : gK) (I : gI) (J : gJ) (X : gX) (A : gI) (B : gJ) (Q : gX) (n : Nat) : Prop :=
  (freshz z K n) ∧
  (IS z K X Q) ∧
  (I 1122 (z + 126) = 0 ∨ I 1122 (z + 126) = 1) ∧
  (Told z K I J X A B Q (layF (I 1122 (z + 126)) (A (z + 128)))) ∧
  (pTape (I 1 z) (I 1102 (z + 126)) (A (z + 1)) (A (z + 127))) ∧
  (I 12 z = I 1110 (z + 126)) ∧
  (pRowBy (I 19 z) (A (z + 71)) (A (z + 145))) ∧
  (pKept 12 (I 22 z) (I 1145 (z + 126)) (A (z + 72)) (A (z + 146))) ∧
  (pKept 7 (I 25 z) (I 1151 (z + 126)) (A (z + 74)) (A (z + 150))) ∧
  (pKept 12 (I 29 z) (I 1155 (z + 126)) (A (z + 76)) (A (z + 152))) ∧
  (pKept 6 (I 33 z) (I 1163 (z + 126)) (A (z + 79)) (A (z + 157))) ∧
  (pKept 3 (I 43 z) (I 1183 (z + 126)) (A (z + 113)) (A (z + 168))) ∧
  (pOut (I 38 z) (I 39 z) (I 1175 (z + 126))) ∧
  (StrQ adS z Q) ∧
  (I 500 (z + 14) = 700 ∧ I 600 (z + 15) = 400 ∧ I 1000 (z + 123) = 200) ∧
  (pFire K (I 304) (I 305) (I 38 z) (X 904 (z + 80)) (A (z + 81)) (A (z + 82)) (A (z + 84)) (I 1176 (z + 126)) (I 1173 (z + 126)) (I 1174 (z + 126)) (A (z + 164)))
/-- a step of the script goes on, with the pieces kept -/
def GoesOn (adS : Nat → Nat) (z m u v : Nat) (o : (Int32 × gK × gI × gJ × gX × gI × gJ × gX × Nat × Nat × Nat) ⊕ (Int32 × gK × gI × gJ × gX × gI × gJ × gX × Nat)) : Prop :=
  ∃ (K : gK) (I : gI) (J : gJ) (X : gX) (A : gI) (B : gJ) (Q : gX) (n u' v' : Nat), o = .inl (nI (m + 6), K, I, J, X, A, B, Q, n, u', v') ∧ Inv adS z K I J X A B Q n ∧ u' ≤ u + 105 ∧ v' ≤ v + 5502
theorem goes {adS : Nat → Nat} {z m u v : Nat} {K : gK} {I : gI} {J : gJ} {X : gX} {A : gI} {B : gJ} {Q : gX} {n u' v' : Nat} (h : Inv adS z K I J X A B Q n) (hu : u' ≤ u + 105) (hv : v' ≤ v + 5502) : Ok (w_law_j1231 (nI m) K I J X A B Q n u' v') (GoesOn adS z m u v) := by
  unfold w_law_j1231
  refine ok_lt (ok_i ⟨K, I, J, X, A, B, Q, n, u', v', ?_, h, hu, hv⟩)
  rw [show (6 : Int32) = nI 6 from rfl, nI_add]
theorem goes0 {adS : Nat → Nat} {z m u v : Nat} {K : gK} {I : gI} {J : gJ} {X : gX} {A : gI} {B : gJ} {Q : gX} {n : Nat} (h : Inv adS z K I J X A B Q n) : Ok (w_law_j1231 (nI m) K I J X A B Q n u v) (GoesOn adS z m u v) := goes h (Nat.le_add_right _ _) (Nat.le_add_right _ _)
/-- where the script is read: step m of a script of L ints -/
def At (L m : Nat) : Prop := m + 6 ≤ L ∧ L ≤ 384
theorem At.rd {L m : Nat} (h : At L m) (k : Nat) (hk : k < 6) : vp_in (nI m + nI k) L := by
  obtain ⟨h1, h2⟩ := h
  rw [nI_add]
  exact nI_in (by omega) (by omega)
theorem At.r1 {L m : Nat} (h : At L m) : vp_in (nI m + (1 : Int32)) L := h.rd 1 (by decide)
theorem At.r2 {L m : Nat} (h : At L m) : vp_in (nI m + (2 : Int32)) L := h.rd 2 (by decide)
theorem At.r3 {L m : Nat} (h : At L m) : vp_in (nI m + (3 : Int32)) L := h.rd 3 (by decide)
theorem At.r4 {L m : Nat} (h : At L m) : vp_in (nI m + (4 : Int32)) L := h.rd 4 (by decide)
theorem At.r5 {L m : Nat} (h : At L m) : vp_in (nI m + (5 : Int32)) L := h.rd 5 (by decide)
