/-! what is told, in the heap: places that never change once made; the yard -/
set_option maxRecDepth 100000
/-- the frozen places: the block of the first yard, and what was made later and is in S -/
def Fz (z : Nat) (S : Nat → Prop) (a : Nat) : Prop := (z + 8 ≤ a ∧ a ≤ z + 13) ∨ (z + 172 ≤ a ∧ S a)
/-- two heaps that agree on the frozen places -/
def Fro (z : Nat) (S : Nat → Prop) (K : gK) (I : gI) (J : gJ) (X : gX) (A : gI) (Q : gX) (K' : gK) (I' : gI) (J' : gJ) (X' : gX) (A' : gI) (Q' : gX) : Prop :=
  ∀ a, Fz z S a → K' a = K a ∧ (∀ f, I' f a = I f a) ∧ (∀ f, J' f a = J f a) ∧ (∀ f, X' f a = X f a) ∧ A' a = A a ∧ Q' a = Q a
def YardX (z : Nat) (S : Nat → Prop) (K : gK) (I : gI) (X : gX) (A : gI) (Q : gX) (s : Nat) (w : Nat → Int32) (y M C R P : Nat) : Prop :=
  X 200 s = some y ∧ (∀ d, d < 4 → Fz z S (y + d)) ∧ Sh K X y 3 rows3 ∧ (∀ j m, Q (y + 1) j = some m → K m = some (.inl 12) ∧ Fz z S m) ∧ YV M C R P (fun k => I k y) (A (y + 2)) (A (y + 3)) (Q (y + 1)) I w
def YardAt (z : Nat) (S : Nat → Prop) (K : gK) (I : gI) (X : gX) (A : gI) (Q : gX) (s : Nat) (w : Nat → Int32) : Prop :=
  ∃ y M C R P : Nat, YardX z S K I X A Q s w y M C R P
theorem Sh3_fr {z y : Nat} {S : Nat → Prop} {K K' : gK} {I I' : gI} {J J' : gJ} {X X' : gX} {A A' : gI} {Q Q' : gX} (h : Sh K X y 3 rows3) (hf : Fro z S K I J X A Q K' I' J' X' A' Q') (hz : ∀ d, d < 4 → Fz z S (y + d)) : Sh K' X' y 3 rows3 := by
  have h0 := hf y (hz 0 (by decide))
  refine ⟨h0.1.trans h.1, fun k q hq => ?_⟩
  have hk : k < 3 := by
    have := (List.getElem?_eq_some_iff.mp hq).1
    exact this
  have hd : q.2.1 < 4 := by
    have e : rows3[k]? = some q := hq
    rcases (show k = 0 ∨ k = 1 ∨ k = 2 by omega) with rfl | rfl | rfl
    · cases e; decide
    · cases e; decide
    · cases e; decide
  obtain ⟨a1, a2⟩ := h.2 k q hq
  exact ⟨(hf _ (hz _ hd)).1.trans a1, (h0.2.2.2.1 _).trans a2⟩
theorem YardX.fr {z s s' y M C R P : Nat} {S : Nat → Prop} {K K' : gK} {I I' : gI} {J J' : gJ} {X X' : gX} {A A' : gI} {Q Q' : gX} {w : Nat → Int32} (h : YardX z S K I X A Q s w y M C R P) (hf : Fro z S K I J X A Q K' I' J' X' A' Q') (hs : X' 200 s' = X 200 s) : YardX z S K' I' X' A' Q' s' w y M C R P := by
  obtain ⟨e, hz, hsh, hm, hY⟩ := h
  obtain ⟨-, fI, -, -, -, -⟩ := hf y (hz 0 (by decide))
  obtain ⟨-, -, -, -, fA2, -⟩ := hf (y + 2) (hz 2 (by decide))
  obtain ⟨-, -, -, -, fA3, -⟩ := hf (y + 3) (hz 3 (by decide))
  obtain ⟨-, -, -, -, -, fQ⟩ := hf (y + 1) (hz 1 (by decide))
  refine ⟨hs.trans e, hz, Sh3_fr hsh hf hz, fun j m hj => ?_, ?_⟩
  · rw [fQ] at hj
    obtain ⟨a1, a2⟩ := hm j m hj
    exact ⟨(hf m a2).1.trans a1, a2⟩
  · have e1 : (fun k => I' k y) = (fun k => I k y) := funext fI
    rw [e1, fA2, fA3, fQ]
    obtain ⟨h1, h2, h3, h4, h5, h6⟩ := hY
    refine ⟨h1, h2, h3, h4, fun m hmM => ?_, h6⟩
    obtain ⟨a, p1, p2, p3, c1, c2, c3, c4, c5, c6, c7, c8, c9, c10⟩ := h5 m hmM
    have fm := (hf a (hm m a c1).2).2.1
    exact ⟨a, p1, p2, p3, c1, c2, c3, c4, (fm _).trans c5, c6, (fm _).trans c7, c8, (fm _).trans c9, c10⟩
/-- the men's names -/
def NamesX (J : gJ) (Q : gX) (y M : Nat) (nm : Nat → Int64) : Prop := ∀ m, m < M → ∃ a, Q (y + 1) m = some a ∧ NameR (J 1200 a) (nm m)
/-- a plan's thing: (C, R) the yard's size, M its men -/
def ThingX (z : Nat) (S : Nat → Prop) (K : gK) (I : gI) (X : gX) (A : gI) (w : Nat → Int32) (M C R t k : Nat) : Prop :=
  Fz z S t ∧ K t = some (.inl 13) ∧ (∃ mi : Nat, mi < 60 ∧ I 1300 t = nI mi ∧ w (210 + 16 * k) = nI mi) ∧ ∃ wh : Nat, wh < 5 ∧ I 1301 t = nI wh ∧ w (211 + 16 * k) = nI wh ∧
    (wh < 2 → ∃ r n : Nat, X 1304 t = some r ∧ Fz z S r ∧ K r = some (.inr (0, 12)) ∧ n ≤ 12 ∧ 1 ≤ n ∧ (wh = 0 → 2 ≤ n) ∧ I 1303 t = nI n ∧ w (212 + 16 * k) = nI n ∧ ∀ i, i < n → ∃ m : Nat, m < M ∧ A r i = nI m ∧ w (213 + 16 * k + i) = nI m) ∧
    (3 ≤ wh → ∃ v : Nat, v < 1000 ∧ I 1302 t = nI v ∧ w (212 + 16 * k) = nI v ∧ (wh = 3 → v < 4 ∨ (100 ≤ v ∧ (v - 100) % 10 < C ∧ (v - 100) / 10 < R)) ∧ (wh = 4 → v < C))
def PlanX (z : Nat) (S : Nat → Prop) (K : gK) (I : gI) (X : gX) (A : gI) (Q : gX) (s : Nat) (w : Nat → Int32) (M C R : Nat) : Prop :=
  ∃ p N : Nat, X 201 s = some p ∧ Fz z S p ∧ Fz z S (p + 1) ∧ K p = some (.inl 4) ∧ K (p + 1) = some (.inr (5, 20)) ∧ X 400 p = some (p + 1) ∧ I 401 p = nI N ∧ N ≤ 20 ∧ w 200 = nI N ∧ ∀ k, k < N → ∃ t : Nat, Q (p + 1) k = some t ∧ ThingX z S K I X A w M C R t k
/-- a condition's tree and its rows of four: d levels -/
def CondX (z : Nat) (S : Nat → Prop) (K : gK) (I : gI) (X : gX) (w : Nat → Int32) : Nat → Nat → Nat → Prop
  | 0, _, _ => False
  | d + 1, c, t => Fz z S c ∧ t ≤ d ∧ t < 60 ∧
      ((K c = some (.inl 14) ∧ w (550 + 4 * t) = 1 ∧ ∃ a ta : Nat, X 1400 c = some a ∧ w (551 + 4 * t) = nI ta ∧ CondX z S K I X w d a ta) ∨
       (K c = some (.inl 17) ∧ w (550 + 4 * t) = 2 ∧ ∃ a ta b tb : Nat, X 1700 c = some a ∧ X 1701 c = some b ∧ w (551 + 4 * t) = nI ta ∧ w (552 + 4 * t) = nI tb ∧ CondX z S K I X w d a ta ∧ CondX z S K I X w d b tb) ∨
       (K c = some (.inl 18) ∧ w (550 + 4 * t) = 3 ∧ ∃ a ta b tb : Nat, X 1800 c = some a ∧ X 1801 c = some b ∧ w (551 + 4 * t) = nI ta ∧ w (552 + 4 * t) = nI tb ∧ CondX z S K I X w d a ta ∧ CondX z S K I X w d b tb) ∨
       (K c = some (.inl 16) ∧ w (550 + 4 * t) = 4) ∨
       (K c = some (.inl 15) ∧ w (550 + 4 * t) = 5 ∧ ∃ wh : Nat, wh < 5 ∧ I 1500 c = nI wh ∧ w (551 + 4 * t) = nI wh ∧ I 1502 c = w (552 + 4 * t) ∧ I 1501 c = w (553 + 4 * t)))
def SentX (z : Nat) (S : Nat → Prop) (K : gK) (I : gI) (X : gX) (s : Nat) (w : Nat → Int32) : Prop :=
  (X 202 s = none ∧ w 540 = 0) ∨ ∃ c t : Nat, X 202 s = some c ∧ w 540 = 1 ∧ w 541 = nI t ∧ CondX z S K I X w 39 c t
/-- all that a State holds, against a row of numbers and a row of names -/
def StateAt (z : Nat) (S : Nat → Prop) (K : gK) (I : gI) (J : gJ) (X : gX) (A : gI) (Q : gX) (s : Nat) (w : Nat → Int32) (nm : Nat → Int64) : Prop :=
  ∃ y M C R P : Nat, YardX z S K I X A Q s w y M C R P ∧ NamesX J Q y M nm ∧ PlanX z S K I X A Q s w M C R ∧ SentX z S K I X s w
theorem ThingX.fr {z M C R t k : Nat} {S : Nat → Prop} {K K' : gK} {I I' : gI} {J J' : gJ} {X X' : gX} {A A' : gI} {Q Q' : gX} {w : Nat → Int32} (h : ThingX z S K I X A w M C R t k) (hf : Fro z S K I J X A Q K' I' J' X' A' Q') : ThingX z S K' I' X' A' w M C R t k := by
  obtain ⟨h1, h2, ⟨mi, m1, m2, m3⟩, wh, h3, h4, h5, h6, h7⟩ := h
  obtain ⟨fK, fI, -, fX, -, -⟩ := hf t h1
  refine ⟨h1, fK.trans h2, ⟨mi, m1, (fI _).trans m2, m3⟩, wh, h3, (fI _).trans h4, h5, fun q => ?_, fun q => ?_⟩
  · obtain ⟨r, n, a1, a2, a3, a4, a5, a6, a7, a8, a9⟩ := h6 q
    obtain ⟨gK, -, -, -, gA, -⟩ := hf r a2
    refine ⟨r, n, (fX _).trans a1, a2, gK.trans a3, a4, a5, a6, (fI _).trans a7, a8, fun i hi => ?_⟩
    rw [gA]
    exact a9 i hi
  · obtain ⟨v, b1, b2, b3, b4, b5⟩ := h7 q
    exact ⟨v, b1, (fI _).trans b2, b3, b4, b5⟩
theorem PlanX.fr {z s s' M C R : Nat} {S : Nat → Prop} {K K' : gK} {I I' : gI} {J J' : gJ} {X X' : gX} {A A' : gI} {Q Q' : gX} {w : Nat → Int32} (h : PlanX z S K I X A Q s w M C R) (hf : Fro z S K I J X A Q K' I' J' X' A' Q') (hs : X' 201 s' = X 201 s) : PlanX z S K' I' X' A' Q' s' w M C R := by
  obtain ⟨p, N, h1, h2, h3, h4, h5, h6, h7, h8, h9, h10⟩ := h
  obtain ⟨fK, fI, -, fX, -, -⟩ := hf p h2
  obtain ⟨gK, -, -, -, -, gQ⟩ := hf (p + 1) h3
  refine ⟨p, N, hs.trans h1, h2, h3, fK.trans h4, gK.trans h5, (fX _).trans h6, (fI _).trans h7, h8, h9, fun k hk => ?_⟩
  obtain ⟨t, e, ht⟩ := h10 k hk
  exact ⟨t, by rw [gQ]; exact e, ht.fr hf⟩
theorem CondX.fr {z : Nat} {S : Nat → Prop} {K K' : gK} {I I' : gI} {J J' : gJ} {X X' : gX} {A A' : gI} {Q Q' : gX} {w : Nat → Int32} (hf : Fro z S K I J X A Q K' I' J' X' A' Q') : ∀ (d c t : Nat), CondX z S K I X w d c t → CondX z S K' I' X' w d c t
  | 0, _, _, h => h
  | d + 1, c, t, h => by
    obtain ⟨h1, h2, h3, h⟩ := h
    obtain ⟨fK, fI, -, fX, -, -⟩ := hf c h1
    refine ⟨h1, h2, h3, ?_⟩
    rcases h with ⟨a1, a2, a, ta, a3, a4, a5⟩ | ⟨a1, a2, a, ta, b, tb, a3, a4, a5, a6, a7, a8⟩ | ⟨a1, a2, a, ta, b, tb, a3, a4, a5, a6, a7, a8⟩ | ⟨a1, a2⟩ | ⟨a1, a2, wh, a3, a4, a5, a6, a7⟩
    · exact Or.inl ⟨fK.trans a1, a2, a, ta, (fX _).trans a3, a4, CondX.fr hf d a ta a5⟩
    · exact Or.inr (Or.inl ⟨fK.trans a1, a2, a, ta, b, tb, (fX _).trans a3, (fX _).trans a4, a5, a6, CondX.fr hf d a ta a7, CondX.fr hf d b tb a8⟩)
    · exact Or.inr (Or.inr (Or.inl ⟨fK.trans a1, a2, a, ta, b, tb, (fX _).trans a3, (fX _).trans a4, a5, a6, CondX.fr hf d a ta a7, CondX.fr hf d b tb a8⟩))
    · exact Or.inr (Or.inr (Or.inr (Or.inl ⟨fK.trans a1, a2⟩)))
    · exact Or.inr (Or.inr (Or.inr (Or.inr ⟨fK.trans a1, a2, wh, a3, (fI _).trans a4, a5, (fI _).trans a6, (fI _).trans a7⟩)))
theorem SentX.fr {z s s' : Nat} {S : Nat → Prop} {K K' : gK} {I I' : gI} {J J' : gJ} {X X' : gX} {A A' : gI} {Q Q' : gX} {w : Nat → Int32} (h : SentX z S K I X s w) (hf : Fro z S K I J X A Q K' I' J' X' A' Q') (hs : X' 202 s' = X 202 s) : SentX z S K' I' X' s' w := by
  rcases h with ⟨a, b⟩ | ⟨c, t, a1, a2, a3, a4⟩
  · exact Or.inl ⟨hs.trans a, b⟩
  · exact Or.inr ⟨c, t, hs.trans a1, a2, a3, CondX.fr hf _ _ _ a4⟩
theorem StateAt.fr {z s s' : Nat} {S : Nat → Prop} {K K' : gK} {I I' : gI} {J J' : gJ} {X X' : gX} {A A' : gI} {Q Q' : gX} {w : Nat → Int32} {nm : Nat → Int64} (h : StateAt z S K I J X A Q s w nm) (hf : Fro z S K I J X A Q K' I' J' X' A' Q') (hs : X' 200 s' = X 200 s) (hs1 : X' 201 s' = X 201 s) (hs2 : X' 202 s' = X 202 s) : StateAt z S K' I' J' X' A' Q' s' w nm := by
  obtain ⟨y, M, C, R, P, hy, hn, hp, hc⟩ := h
  refine ⟨y, M, C, R, P, hy.fr hf hs, fun m hm => ?_, hp.fr hf hs1, hc.fr hf hs2⟩
  obtain ⟨a, e, q⟩ := hn m hm
  obtain ⟨-, hz, -, hm', -⟩ := hy
  refine ⟨a, ?_, ?_⟩
  · rw [(hf (y + 1) (hz 1 (by decide))).2.2.2.2.2]
    exact e
  · rw [(hf a (hm' m a e).2).2.2.1]
    exact q
theorem Fz.mono {z a : Nat} {S S' : Nat → Prop} (h : Fz z S a) (hS : ∀ a, S a → S' a) : Fz z S' a := h.elim Or.inl fun q => Or.inr ⟨q.1, hS a q.2⟩
theorem CondX.mono {z : Nat} {S S' : Nat → Prop} {K : gK} {I : gI} {X : gX} {w : Nat → Int32} (hS : ∀ a, S a → S' a) : ∀ (d c t : Nat), CondX z S K I X w d c t → CondX z S' K I X w d c t
  | 0, _, _, h => h
  | d + 1, c, t, h => by
    obtain ⟨h1, h2, h3, h⟩ := h
    refine ⟨h1.mono hS, h2, h3, ?_⟩
    rcases h with ⟨a1, a2, a, ta, a3, a4, a5⟩ | ⟨a1, a2, a, ta, b, tb, a3, a4, a5, a6, a7, a8⟩ | ⟨a1, a2, a, ta, b, tb, a3, a4, a5, a6, a7, a8⟩ | h | h
    · exact Or.inl ⟨a1, a2, a, ta, a3, a4, CondX.mono hS d a ta a5⟩
    · exact Or.inr (Or.inl ⟨a1, a2, a, ta, b, tb, a3, a4, a5, a6, CondX.mono hS d a ta a7, CondX.mono hS d b tb a8⟩)
    · exact Or.inr (Or.inr (Or.inl ⟨a1, a2, a, ta, b, tb, a3, a4, a5, a6, CondX.mono hS d a ta a7, CondX.mono hS d b tb a8⟩))
    · exact Or.inr (Or.inr (Or.inr (Or.inl h)))
    · exact Or.inr (Or.inr (Or.inr (Or.inr h)))
theorem ThingX.mono {z M C R t k : Nat} {S S' : Nat → Prop} {K : gK} {I : gI} {X : gX} {A : gI} {w : Nat → Int32} (hS : ∀ a, S a → S' a) (h : ThingX z S K I X A w M C R t k) : ThingX z S' K I X A w M C R t k := by
  obtain ⟨h1, h2, h3, wh, h4, h5, h6, h7, h8⟩ := h
  refine ⟨h1.mono hS, h2, h3, wh, h4, h5, h6, fun q => ?_, h8⟩
  obtain ⟨r, n, a1, a2, a3⟩ := h7 q
  exact ⟨r, n, a1, a2.mono hS, a3⟩
theorem StateAt.mono {z s : Nat} {S S' : Nat → Prop} {K : gK} {I : gI} {J : gJ} {X : gX} {A : gI} {Q : gX} {w : Nat → Int32} {nm : Nat → Int64} (hS : ∀ a, S a → S' a) (h : StateAt z S K I J X A Q s w nm) : StateAt z S' K I J X A Q s w nm := by
  obtain ⟨y, M, C, R, P, ⟨y1, y2, y3, y4, y5⟩, hn, ⟨p, N, p1, p2, p3, p4, p5, p6, p7, p8, p9, p10⟩, hc⟩ := h
  refine ⟨y, M, C, R, P, ⟨y1, fun d hd => (y2 d hd).mono hS, y3, fun j m hj => ⟨(y4 j m hj).1, (y4 j m hj).2.mono hS⟩, y5⟩, hn, ⟨p, N, p1, p2.mono hS, p3.mono hS, p4, p5, p6, p7, p8, p9, fun k hk => ?_⟩, ?_⟩
  · obtain ⟨t, a, b⟩ := p10 k hk
    exact ⟨t, a, b.mono hS⟩
  · rcases hc with h | ⟨c, t, a1, a2, a3, a4⟩
    · exact Or.inl h
    · exact Or.inr ⟨c, t, a1, a2, a3, CondX.mono hS _ _ _ a4⟩
/-- another row with the same 800 numbers, the same 12 names -/
theorem CondX.congr {z : Nat} {S : Nat → Prop} {K : gK} {I : gI} {X : gX} {w w' : Nat → Int32} (hw : ∀ i, i < 800 → w' i = w i) : ∀ (d c t : Nat), CondX z S K I X w d c t → CondX z S K I X w' d c t
  | 0, _, _, h => h
  | d + 1, c, t, h => by
    obtain ⟨h1, h2, h3, h⟩ := h
    refine ⟨h1, h2, h3, ?_⟩
    rw [hw (550 + 4 * t) (by omega), hw (551 + 4 * t) (by omega), hw (552 + 4 * t) (by omega), hw (553 + 4 * t) (by omega)]
    rcases h with ⟨a1, a2, a, ta, a3, a4, a5⟩ | ⟨a1, a2, a, ta, b, tb, a3, a4, a5, a6, a7, a8⟩ | ⟨a1, a2, a, ta, b, tb, a3, a4, a5, a6, a7, a8⟩ | h | h
    · exact Or.inl ⟨a1, a2, a, ta, a3, a4, CondX.congr hw d a ta a5⟩
    · exact Or.inr (Or.inl ⟨a1, a2, a, ta, b, tb, a3, a4, a5, a6, CondX.congr hw d a ta a7, CondX.congr hw d b tb a8⟩)
    · exact Or.inr (Or.inr (Or.inl ⟨a1, a2, a, ta, b, tb, a3, a4, a5, a6, CondX.congr hw d a ta a7, CondX.congr hw d b tb a8⟩))
    · exact Or.inr (Or.inr (Or.inr (Or.inl h)))
    · exact Or.inr (Or.inr (Or.inr (Or.inr h)))
theorem YV.congr {M C R P : Nat} {g fuel burns : Nat → Int32} {men : Nat → Option Nat} {IM : Nat → Nat → Int32} {w w' : Nat → Int32} (hw : ∀ i, i < 200 → w' i = w i) (h : YV M C R P g fuel burns men IM w) : YV M C R P g fuel burns men IM w' := by
  obtain ⟨h1, h2, h3, h4, h5, h6⟩ := h
  unfold YNum at h3
  refine ⟨h1, ?_, ?_, ?_, fun m hm => ?_, fun r c hr hc => ?_⟩
  · rw [hw 0 (by decide), hw 9 (by decide), hw 10 (by decide), hw 2 (by decide)]
    exact h2
  · unfold YNum
    rw [hw 1 (by decide), hw 3 (by decide), hw 4 (by decide), hw 5 (by decide), hw 6 (by decide), hw 7 (by decide), hw 8 (by decide)]
    exact h3
  · rw [hw 11 (by decide)]
    exact h4
  · have := h5 m hm
    unfold YMan at this ⊢
    rw [hw (20 + 3 * m) (by omega), hw (20 + 3 * m + 1) (by omega), hw (20 + 3 * m + 2) (by omega)]
    exact this
  · rcases h6 r c hr hc with ⟨a1, a2, f, b, a3, a4, a5, a6, a7, a8⟩ | h
    · have h8 : C * r + c < 64 := by
        have h9 : C * r ≤ 8 * r := Nat.mul_le_mul_right r h1.2.1
        omega
      exact Or.inl ⟨a1, a2, f, b, a3, a4, a5, (hw _ (by omega)).trans a6, a7, (hw _ (by omega)).trans a8⟩
    · exact Or.inr h
theorem PlanX.congr {z s M C R : Nat} {S : Nat → Prop} {K : gK} {I : gI} {X : gX} {A : gI} {Q : gX} {w w' : Nat → Int32} (hw : ∀ i, i < 540 → w' i = w i) (h : PlanX z S K I X A Q s w M C R) : PlanX z S K I X A Q s w' M C R := by
  obtain ⟨p, N, p1, p2, p3, p4, p5, p6, p7, p8, p9, p10⟩ := h
  refine ⟨p, N, p1, p2, p3, p4, p5, p6, p7, p8, (hw 200 (by decide)).trans p9, fun k hk => ?_⟩
  obtain ⟨t, e, t1, t2, ⟨mi, m1, m2, m3⟩, wh, t3, t4, t5, t6, t7⟩ := p10 k hk
  refine ⟨t, e, t1, t2, ⟨mi, m1, m2, (hw _ (by omega)).trans m3⟩, wh, t3, t4, (hw _ (by omega)).trans t5, fun q => ?_, fun q => ?_⟩
  · obtain ⟨r, n, a1, a2, a3, a4, a5, a6, a7, a8, a9⟩ := t6 q
    refine ⟨r, n, a1, a2, a3, a4, a5, a6, a7, (hw _ (by omega)).trans a8, fun i hi => ?_⟩
    obtain ⟨m, b1, b2, b3⟩ := a9 i hi
    exact ⟨m, b1, b2, (hw _ (by omega)).trans b3⟩
  · obtain ⟨v, b1, b2, b3, b4⟩ := t7 q
    exact ⟨v, b1, b2, (hw _ (by omega)).trans b3, b4⟩
theorem StateAt.congr {z s : Nat} {S : Nat → Prop} {K : gK} {I : gI} {J : gJ} {X : gX} {A : gI} {Q : gX} {w w' : Nat → Int32} {nm nm' : Nat → Int64} (hw : ∀ i, i < 800 → w' i = w i) (hn' : ∀ i, i < 12 → nm' i = nm i) (h : StateAt z S K I J X A Q s w nm) : StateAt z S K I J X A Q s w' nm' := by
  obtain ⟨y, M, C, R, P, ⟨y1, y2, y3, y4, y5⟩, hn, hp, hc⟩ := h
  refine ⟨y, M, C, R, P, ⟨y1, y2, y3, y4, y5.congr fun i hi => hw i (by omega)⟩, fun m hm => ?_, hp.congr fun i hi => hw i (by omega), ?_⟩
  · obtain ⟨a, e, q⟩ := hn m hm
    have hM := y5.1.1
    refine ⟨a, e, ?_⟩
    rw [hn' m (by omega)]
    exact q
  · rcases hc with ⟨a, b⟩ | ⟨c, t, a1, a2, a3, a4⟩
    · exact Or.inl ⟨a, (hw 540 (by decide)).trans b⟩
    · exact Or.inr ⟨c, t, a1, (hw 540 (by decide)).trans a2, (hw 541 (by decide)).trans a3, CondX.congr hw _ _ _ a4⟩
/-- reads at a place that the list leaves, or writes with what is there -/
theorem ova_fr {α : Type} {A : Nat → α} {a : Nat} : ∀ {l : List (Nat × α)}, (∀ p ∈ l, p.1 = a → p.2 = A a) → ova A l a = A a
  | [], _ => rfl
  | (b, v) :: l, h => by
    show (if a = b then v else ova A l a) = A a
    by_cases q : a = b
    · rw [if_pos q]; exact h (b, v) (List.mem_cons_self ..) q.symm
    · rw [if_neg q]; exact ova_fr (fun p hp => h p (List.mem_cons_of_mem _ hp))
theorem ov_fr {α : Type} {I : Nat → Nat → α} {f a : Nat} : ∀ {l : List (Nat × Nat × α)}, (∀ p ∈ l, p.2.1 = a → p.1 = f → p.2.2 = I f a) → ov I l f a = I f a
  | [], _ => rfl
  | (g, b, v) :: l, h => by
    show (if f = g then (fun c => if c = b then v else ov I l f c) else ov I l f) a = I f a
    by_cases q : f = g
    · subst q
      rw [if_pos rfl]
      by_cases r : a = b
      · simp only [if_pos r]; exact h (f, b, v) (List.mem_cons_self ..) r.symm rfl
      · simp only [if_neg r]; exact ov_fr (fun p hp => h p (List.mem_cons_of_mem _ hp))
    · rw [if_neg q]; exact ov_fr (fun p hp => h p (List.mem_cons_of_mem _ hp))
/-- the places below the frozen ones, those of the two objects; not those that keep images' numbers -/
def Lo (z a : Nat) : Prop := a ≤ z + 7 ∨ (z + 14 ≤ a ∧ a ≤ z + 130) ∨ (z + 132 ≤ a ∧ a ≤ z + 134) ∨ (z + 136 ≤ a ∧ a ≤ z + 171)
theorem Lo.nz {z a : Nat} {S : Nat → Prop} (h : Lo z a) : ¬ Fz z S a := by
  intro q
  unfold Lo at h
  unfold Fz at q
  omega
/-- the images kept -/
def ImgX (z : Nat) (S : Nat → Prop) (K : gK) (I : gI) (J : gJ) (X : gX) (A : gI) (Q : gX) (kp ik : Nat → Int32) (kn : Nat → Int64) : Prop :=
  (∀ s, Q (z + 125) 0 = some s → ¬ Q (z + 125) 1 = some s) ∧ ∀ k, k < 2 → (Q (z + 125) k = none ∧ ik k = 0) ∨ ∃ s : Nat, Q (z + 125) k = some s ∧ z + 172 ≤ s ∧ K s = some (.inl 2) ∧ ¬ ik k = 0 ∧ StateAt z S K I J X A Q s (fun i => kp (800 * k + i)) (fun i => kn (12 * k + i))
/-- what both sides are told: row w; S: what never changes once made -/
def ToldS (z : Nat) (S : Nat → Prop) (K : gK) (I : gI) (J : gJ) (X : gX) (A : gI) (B : gJ) (Q : gX) (w : Nat → Int32) : Prop :=
  (∀ a, S a → K a ≠ none ∧ ¬ K a = some (.inl 2)) ∧ (∀ j s, j < 21 → Q (z + 90) j = some s → ∀ d, d < 5 → ¬ S (s + d)) ∧ StateAt z S K I J X A Q (z + 7) w (B (z + 132)) ∧ ImgX z S K I J X A Q (A (z + 131)) (A (z + 135)) (B (z + 134))
noncomputable def ToldO : { f : Nat → gK → gI → gJ → gX → gI → gJ → gX → (Nat → Int32) → Prop // ∀ z K I J X A B Q w, f z K I J X A B Q w ↔ ∃ S : Nat → Prop, ToldS z S K I J X A B Q w } := Classical.choice ⟨⟨fun z K I J X A B Q w => ∃ S : Nat → Prop, ToldS z S K I J X A B Q w, fun _ _ _ _ _ _ _ _ _ => Iff.rfl⟩⟩
def Told (z : Nat) (K : gK) (I : gI) (J : gJ) (X : gX) (A : gI) (B : gJ) (Q : gX) (w : Nat → Int32) : Prop := ToldO.1 z K I J X A B Q w
theorem Told.ex {z : Nat} {K : gK} {I : gI} {J : gJ} {X : gX} {A : gI} {B : gJ} {Q : gX} {w : Nat → Int32} (h : Told z K I J X A B Q w) : ∃ S : Nat → Prop, ToldS z S K I J X A B Q w := (ToldO.2 z K I J X A B Q w).mp h
theorem ToldS.t {z : Nat} {S : Nat → Prop} {K : gK} {I : gI} {J : gJ} {X : gX} {A : gI} {B : gJ} {Q : gX} {w : Nat → Int32} (h : ToldS z S K I J X A B Q w) : Told z K I J X A B Q w := (ToldO.2 z K I J X A B Q w).mpr ⟨S, h⟩
/-- the yard of it -/
theorem Told.yard {z : Nat} {K : gK} {I : gI} {J : gJ} {X : gX} {A : gI} {B : gJ} {Q : gX} {w : Nat → Int32} (h : Told z K I J X A B Q w) : ∃ S : Nat → Prop, (∀ a, S a → K a ≠ none) ∧ YardAt z S K I X A Q (z + 7) w := by
  obtain ⟨S, hS, -, ⟨y, M, C, R, P, hy, -⟩, -⟩ := h.ex
  exact ⟨S, fun a ha => (hS a ha).1, y, M, C, R, P, hy⟩
/-- another heap with the same frozen places, the same States, the same images -/
theorem ToldS.fr {z : Nat} {S : Nat → Prop} {K K' : gK} {I I' : gI} {J J' : gJ} {X X' : gX} {A A' : gI} {B B' : gJ} {Q Q' : gX} {w w' : Nat → Int32} (h : ToldS z S K I J X A B Q w) (hf : Fro z S K I J X A Q K' I' J' X' A' Q') (hK : ∀ a, S a → K' a = K a) (hw : ∀ i, i < 800 → w' i = w i) (hn : ∀ i, i < 12 → B' (z + 132) i = B (z + 132) i)
    (h0 : X' 200 (z + 7) = X 200 (z + 7)) (h1 : X' 201 (z + 7) = X 201 (z + 7)) (h2 : X' 202 (z + 7) = X 202 (z + 7))
    (hseen : ∀ j s, j < 21 → Q' (z + 90) j = some s → ∀ d, d < 5 → ¬ S (s + d))
    (hq : Q' (z + 125) = Q (z + 125)) (ha1 : A' (z + 131) = A (z + 131)) (ha2 : A' (z + 135) = A (z + 135)) (hb : B' (z + 134) = B (z + 134))
    (him : ∀ k s, k < 2 → Q (z + 125) k = some s → K s = some (.inl 2) → z + 172 ≤ s → K' s = K s ∧ X' 200 s = X 200 s ∧ X' 201 s = X 201 s ∧ X' 202 s = X 202 s) : ToldS z S K' I' J' X' A' B' Q' w' := by
  obtain ⟨hS, -, hst, hi1, hi2⟩ := h
  refine ⟨fun a ha => by rw [hK a ha]; exact hS a ha, hseen, (hst.fr hf h0 h1 h2).congr hw hn, by rw [hq]; exact hi1, fun k hk => ?_⟩
  rw [hq, ha1, ha2, hb]
  rcases hi2 k hk with q | ⟨s, q1, q2, q3, q4, q5⟩
  · exact Or.inl q
  · obtain ⟨e1, e2, e3, e4⟩ := him k s hk q1 q3 q2
    exact Or.inr ⟨s, q1, q2, e1.trans q3, q4, q5.fr hf e2 e3 e4⟩
theorem Told.put {z : Nat} {K : gK} {I : gI} {J : gJ} {X : gX} {A : gI} {B : gJ} {Q : gX} {w : Nat → Int32} (h : Told z K I J X A B Q w) {l : List (Nat × Nat × Int32)} {l2 : List (Nat × Nat × Option Nat)} {l3 : List (Nat × (Nat → Int32))} (h1 : ∀ p ∈ l, Lo z p.2.1) (h2 : ∀ p ∈ l2, Lo z p.2.1 ∧ (¬ p.1 = 200 ∧ ¬ p.1 = 201 ∧ ¬ p.1 = 202)) (h3 : ∀ p ∈ l3, Lo z p.1 ∨ p.2 = A p.1) : Told z K (ov I l) J (ov X l2) (ova A l3) B Q w := by
  obtain ⟨S, h⟩ := h.ex
  have ha : ∀ a, ¬ Lo z a → ova A l3 a = A a := fun a q => by
    refine ova_fr (fun p hp e => ?_)
    rcases h3 p hp with r | r
    · exact absurd (e ▸ r) q
    · rw [r, e]
  have hx : ∀ f a, f = 200 ∨ f = 201 ∨ f = 202 → ov X l2 f a = X f a := fun f a q => ov_fr (fun p hp _ e => by have := (h2 p hp).2; omega)
  refine ToldS.t (S := S) (h.fr (K' := K) (I' := ov I l) (J' := J) (Q' := Q) (fun a q => ⟨rfl, fun f => ?_, fun f => rfl, fun f => ?_, ?_, rfl⟩) (fun a _ => rfl) (fun _ _ => rfl) (fun _ _ => rfl) (hx _ _ (Or.inl rfl)) (hx _ _ (Or.inr (Or.inl rfl))) (hx _ _ (Or.inr (Or.inr rfl))) h.2.1 rfl (ha _ (by unfold Lo; omega)) (ha _ (by unfold Lo; omega)) rfl (fun k s _ _ _ _ => ⟨rfl, hx _ _ (Or.inl rfl), hx _ _ (Or.inr (Or.inl rfl)), hx _ _ (Or.inr (Or.inr rfl))⟩))
  · exact ov_fr (fun p hp e _ => absurd (e ▸ q) (h1 p hp).nz)
  · exact ov_fr (fun p hp e _ => absurd (e ▸ q) (h2 p hp).1.nz)
  · exact ha a (fun r => r.nz q)
theorem Told.putI {z : Nat} {K : gK} {I : gI} {J : gJ} {X : gX} {A : gI} {B : gJ} {Q : gX} {w : Nat → Int32} (h : Told z K I J X A B Q w) {l : List (Nat × Nat × Int32)} {l3 : List (Nat × (Nat → Int32))} (h1 : ∀ p ∈ l, Lo z p.2.1) (h3 : ∀ p ∈ l3, Lo z p.1 ∨ p.2 = A p.1) : Told z K (ov I l) J X (ova A l3) B Q w := h.put (l2 := []) h1 (fun _ h => absurd h (List.not_mem_nil)) h3
theorem a_up_id {α : Type} {A : Nat → α} {a : Nat} : a_up A a (A a) = A := by
  funext b
  unfold a_up
  by_cases q : b = a
  · rw [if_pos q, q]
  · rw [if_neg q]
theorem ova_e4 {α : Type} {A : Nat → α} {a b c d p q : Nat} {x1 x2 x3 x4 : α} : ova A [(a, x1), (b, x2), (c, x3), (d, x4), (p, A p), (q, A q)] = ova A [(a, x1), (b, x2), (c, x3), (d, x4)] := by
  simp only [ova, a_up_id]
theorem Told.w {z : Nat} {K : gK} {I : gI} {J : gJ} {X : gX} {A : gI} {B : gJ} {Q : gX} {w w' : Nat → Int32} (h : Told z K I J X A B Q w) (e : w' = w) : Told z K I J X A B Q w' := e ▸ h
theorem Told.grid {z : Nat} {K : gK} {I : gI} {J : gJ} {X : gX} {A : gI} {B : gJ} {Q : gX} {w : Nat → Int32} (h : Told z K I J X A B Q w) {P : Nat → (Nat → Int32)} : Told z K I J X (ovg A (z + 25) 12 P) B Q w := by
  obtain ⟨S, h⟩ := h.ex
  have ha : ∀ a, (a < z + 25 ∨ z + 37 ≤ a) → ovg A (z + 25) 12 P a = A a := fun a q => by
    unfold ovg
    exact if_neg (by omega)
  refine ToldS.t (S := S) (h.fr (K' := K) (I' := I) (J' := J) (X' := X) (Q' := Q) (fun a q => ⟨rfl, fun f => rfl, fun f => rfl, fun f => rfl, ha a (by unfold Fz at q; omega), rfl⟩) (fun a _ => rfl) (fun _ _ => rfl) (fun _ _ => rfl) rfl rfl rfl h.2.1 rfl (ha _ (by omega)) (ha _ (by omega)) rfl (fun k s _ _ _ _ => ⟨rfl, rfl, rfl, rfl⟩))
theorem ovg25 {α : Type} {A : Nat → α} {z k : Nat} {P : Nat → α} (h : ¬ (25 ≤ k ∧ k < 37)) : ovg A (z + 25) 12 P (z + k) = A (z + k) := by
  unfold ovg
  exact if_neg (by omega)
theorem Told.putO {z : Nat} {K : gK} {I : gI} {J : gJ} {X : gX} {A : gI} {B : gJ} {Q : gX} {w : Nat → Int32} (h : Told z K I J X A B Q w) {l : List (Nat × Nat × Int32)} (h1 : ∀ p ∈ l, Lo z p.2.1) : Told z K (ov I l) J X A B Q w := h.putI (l3 := []) h1 (fun _ h => absurd h (List.not_mem_nil))
theorem Told.B {z : Nat} {K : gK} {I : gI} {J : gJ} {X : gX} {A : gI} {B B' : gJ} {Q : gX} {w : Nat → Int32} (h : Told z K I J X A B Q w) (h1 : B' (z + 132) = B (z + 132)) (h2 : B' (z + 134) = B (z + 134)) : Told z K I J X A B' Q w := by
  obtain ⟨S, h⟩ := h.ex
  refine ToldS.t (S := S) ?_
  unfold ToldS at h ⊢
  rw [h1, h2]
  exact h
