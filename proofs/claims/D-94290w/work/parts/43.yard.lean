/-! the plain law: the yard told, on both sides; small functions of it -/
set_option maxRecDepth 100000
def stdv (j : Nat) : Int32 := if j = 1 then 30 else if j = 2 then 6 else if j = 3 then 8 else if j = 4 then 5 else if j = 5 then 9999 else if j = 7 then 20 else if j = 8 then 2 else if j = 11 then -1 else 0
def stdF (w : Nat → Int32) : Nat → Int32 := fun j => if j < 200 then stdv j else w j
theorem std_ok {N : Nat} (hN : 200 ≤ N) (hN2 : N < 1000) (w : Nat → Int32) : f14_standard N w = some (stdF w) := by
  have h : Ok (f14_standard N w) (fun x => x = stdF w) := by
    unfold f14_standard
    refine ok_b (Q := fun x => x = fun j => if j < 200 then (0 : Int32) else w j) ?_ (fun x hx => ?_)
    · refine ok_fu (fun k s => ∃ i, k + i = 200 ∧ s.1 = nI i ∧ s.2 = fun j => if j < i then (0 : Int32) else w j) (k := 200) (by decide) ⟨0, rfl, rfl, funext fun j => (if_neg (Nat.not_lt_zero j)).symm⟩ ?_
      rintro k ⟨s1, s2⟩ ⟨i, hk, e1, e2⟩
      dsimp only at e1 e2 ⊢
      subst e1 e2
      unfold f14_standard_s1
      refine ok_if (fun h => ?_) (fun h => ?_)
      · have h2 : 200 ≤ i := (nI_leI (a := 200) (by decide) (by omega)).mp h
        have : i = 200 := by omega
        subst this
        exact ok_i rfl
      · have h2 : i < 200 := Nat.lt_of_not_le fun q => h (nI_le (a := 200) q (by omega))
        refine ok_gd (inb_nI (by omega) (by omega)) (ok_lt (ok_lt (ok_i ⟨k - 1, by omega, i + 1, by omega, nI_1 i, ?_⟩)))
        funext j
        rw [nI_clamp (by omega)]
        unfold upd
        dsimp only
        by_cases q : j = i
        · subst q
          simp
        · rw [if_neg q]
          by_cases q2 : j < i
          · rw [if_pos q2, if_pos (by omega)]
          · rw [if_neg q2, if_neg (by omega)]
    · subst hx
      unfold f14_standard_e1_0
      have g : ∀ k : Nat, k < 200 → inb (nI k) N := fun k hk => inb_nI (by omega) (by omega)
      refine ok_gd (g 1 (by decide)) (ok_lt (ok_gd (g 2 (by decide)) (ok_lt (ok_gd (g 3 (by decide)) (ok_lt (ok_gd (g 4 (by decide)) (ok_lt (ok_gd (g 5 (by decide)) (ok_lt (ok_gd (g 7 (by decide)) (ok_lt (ok_gd (g 8 (by decide)) (ok_lt (ok_gd (g 11 (by decide)) (ok_lt (ok_i ?_))))))))))))))))
      funext j
      have c : ∀ k : Nat, k < 200 → (nI k).toNatClampNeg = k := fun k hk => nI_clamp (by omega)
      show upd (upd (upd (upd (upd (upd (upd (upd (fun j => if j < 200 then (0 : Int32) else w j) (nI 1).toNatClampNeg 30) (nI 2).toNatClampNeg 6) (nI 3).toNatClampNeg 8) (nI 4).toNatClampNeg 5) (nI 5).toNatClampNeg 9999) (nI 7).toNatClampNeg 20) (nI 8).toNatClampNeg 2) (nI 11).toNatClampNeg (-1) j = _
      rw [c 1 (by decide), c 2 (by decide), c 3 (by decide), c 4 (by decide), c 5 (by decide), c 7 (by decide), c 8 (by decide), c 11 (by decide)]
      unfold upd stdF stdv
      dsimp only
      by_cases q : j < 200
      · rw [if_pos q, if_pos q]
        by_cases q1 : j = 1 <;> by_cases q2 : j = 2 <;> by_cases q3 : j = 3 <;> by_cases q4 : j = 4 <;> by_cases q5 : j = 5 <;> by_cases q7 : j = 7 <;> by_cases q8 : j = 8 <;> by_cases q11 : j = 11 <;> first | omega | simp_all
      · rw [if_neg q, if_neg q, if_neg (by omega), if_neg (by omega), if_neg (by omega), if_neg (by omega), if_neg (by omega), if_neg (by omega), if_neg (by omega), if_neg (by omega)]
  obtain ⟨x, e, rfl⟩ := h
  exact e
/-- the row of all that is told, once it is laid -/
def layF (b : Int32) (w : Nat → Int32) : Nat → Int32 := if b = 0 then stdF w else w
theorem lay_ok {b : Int32} (hb : b = 0 ∨ b = 1) (w : Nat → Int32) : f14_lay b w = some (1, layF b w) := by
  unfold f14_lay layF
  rcases hb with rfl | rfl
  · rw [if_pos rfl, if_pos rfl, std_ok (by decide) (by decide)]
    rfl
  · rw [if_neg (by decide), if_neg (by decide)]
/-! the yard -/
def YNum (g w : Nat → Int32) (k j lo hi : Nat) : Prop := ∃ q, lo ≤ q ∧ q ≤ hi ∧ g k = nI q ∧ w j = nI q
/-- a man: the object, his numbers, his name -/
def YMan (men : Nat → Option Nat) (IM : Nat → Nat → Int32) (w : Nat → Int32) (m : Nat) : Prop := ∃ a h p q : Nat, men m = some a ∧ (1 ≤ h ∧ h ≤ 9) ∧ (1 ≤ p ∧ p ≤ 9) ∧ (1 ≤ q ∧ q ≤ 99) ∧ IM 1201 a = nI h ∧ w (20 + 3 * m) = nI h ∧ IM 1202 a = nI p ∧ w (20 + 3 * m + 1) = nI p ∧ IM 1203 a = nI q ∧ w (20 + 3 * m + 2) = nI q
def YCell (C R : Nat) (fuel burns w : Nat → Int32) (r c : Nat) : Prop := (r < R ∧ c < C ∧ ∃ f b : Nat, f ≤ 9 ∧ (b = 0 ∨ b = 1 ∧ 1 ≤ f) ∧ fuel (8 * r + c) = nI f ∧ w (60 + (C * r + c)) = nI f ∧ burns (8 * r + c) = nI b ∧ w (130 + (C * r + c)) = nI b) ∨ (¬ (r < R ∧ c < C) ∧ fuel (8 * r + c) = 0 ∧ burns (8 * r + c) = 0)
def YV (M C R P : Nat) (g fuel burns : Nat → Int32) (men : Nat → Option Nat) (IM : Nat → Nat → Int32) (w : Nat → Int32) : Prop :=
  (M ≤ 12 ∧ C ≤ 8 ∧ R ≤ 8 ∧ (C = 0 ↔ R = 0) ∧ 1 ≤ P ∧ P ≤ 30) ∧ (g 303 = nI M ∧ w 0 = nI M ∧ g 304 = nI C ∧ w 9 = nI C ∧ g 305 = nI R ∧ w 10 = nI R ∧ g 307 = nI P ∧ w 2 = nI P) ∧
  (YNum g w 306 1 10 99 ∧ YNum g w 308 3 1 20 ∧ YNum g w 309 4 1 30 ∧ YNum g w 310 5 0 9999 ∧ YNum g w 311 6 0 99 ∧ YNum g w 312 7 1 99 ∧ YNum g w 313 8 1 9) ∧ (g 314 = w 11 ∧ (g 314 = -1 ∨ ∃ d : Nat, d < 4 ∧ g 314 = nI d)) ∧
  (∀ m, m < M → YMan men IM w m) ∧ (∀ r c, r < 8 → c < 8 → YCell C R fuel burns w r c)
/-! small functions -/
theorem up1 {a b : Nat} (hb : 0 < b) (hs : a + b < 2 ^ 31) : f1_up (nI a) (nI b) = some (nI ((a + b - 1) / b)) := by
  unfold f1_up
  rw [lt_is, lt_is, lt_is, gd_t (nI_ne0 hb (by omega)), nI_add, show (1 : Int32) = nI 1 from rfl, pk_sub (by omega), pk_div (by omega) hb (by omega)]
theorem up14 {a b : Nat} (hb : 0 < b) (hs : a + b < 2 ^ 31) : f14_up (nI a) (nI b) = some (nI ((a + b - 1) / b)) := by
  unfold f14_up
  rw [lt_is, lt_is, lt_is, gd_t (nI_ne0 hb (by omega)), nI_add, show (1 : Int32) = nI 1 from rfl, pk_sub (by omega), pk_div (by omega) hb (by omega)]
theorem manOf_is {m k : Nat} (hm : m < 12) (hk : k < 3) (w : Nat → Int32) : f14_manOf (nI m) (nI k) w = some (w (20 + 3 * m + k)) := by
  unfold f14_manOf
  rw [lt_is, lt_is, lt_is, show (3 : Int32) = nI 3 from rfl, show (20 : Int32) = nI 20 from rfl, pk_mul, nI_add, nI_add, gd_t (inb_nI (by omega) (by decide)), lt_is, nI_clamp (by omega)]
theorem men_is (w : Nat → Int32) : f14_men w = some (w 0) := by
  unfold f14_men
  rw [gd_t (by decide)]
  rfl
theorem columns_is (w : Nat → Int32) : f14_columns w = some (w 9) := by
  unfold f14_columns
  rw [gd_t (by decide)]
  rfl
/-- how long a place takes -/
theorem time_eq {M C R P : Nat} {g fuel burns : Nat → Int32} {men : Nat → Option Nat} {IM : Nat → Nat → Int32} {w : Nat → Int32} (hY : YV M C R P g fuel burns men IM w) {N p m : Nat} (hN : 2 ≤ N) (hN2 : N ≤ 12) (hp : p < N) (hm : m < M) {a1 : Nat → Int32} (e1 : a1 p = nI m) : ∃ t : Nat, 1 ≤ t ∧ t ≤ 140 ∧ f10_time (nI p) (g 306) (g 309) (g 313) (nI N) a1 men (IM 1201) = some (nI t) ∧ f14_timeOf (nI p) (nI N) (nI m) w = some (nI t) := by
  obtain ⟨⟨hM, -⟩, -, ⟨⟨q6, a6, b6, g6, w6⟩, -, ⟨q9, a9, b9, g9, w9⟩, -, -, -, ⟨q13, a13, b13, g13, w13⟩⟩, -, hmen, -⟩ := hY
  obtain ⟨a, h, pc, pw, ha, ⟨h1, h2⟩, -, -, eh, wh, -⟩ := hmen m hm
  have hm12 : m < 12 := by omega
  have hgap : (q6 + (N - 1) - 1) / (N - 1) ≤ 99 := by
    apply Nat.div_le_of_le_mul
    have : 99 ≤ (N - 1) * 99 := Nat.le_mul_of_pos_left 99 (by omega)
    have h3 : (N - 1) * 99 = (N - 1) + (N - 1) * 98 := by omega
    have h4 : 98 ≤ (N - 1) * 98 := Nat.le_mul_of_pos_left 98 (by omega)
    omega
  have e4 : nI ((q6 + (N - 1) - 1) / (N - 1)) / (4 : Int32) = nI ((q6 + (N - 1) - 1) / (N - 1) / 4) := by
    rw [show (4 : Int32) = nI 4 from rfl, pk_div (by omega) (by decide) (by decide)]
  have eN : nI N - (1 : Int32) = nI (N - 1) := by rw [show (1 : Int32) = nI 1 from rfl, pk_sub (by omega)]
  generalize hG : (q6 + (N - 1) - 1) / (N - 1) / 4 = G at e4
  have hG2 : G ≤ 24 := by omega
  have eman : f9_manR (nI p) a1 men = some (some a) := by
    unfold f9_manR
    rw [gd_t (inb_nI (by omega) (by decide)), lt_is, nI_clamp (by omega), e1, gd_t (inb_nI hm12 (by decide)), lt_is, nI_clamp (by omega), ha]
  have ey : f14_yards (nI N) w = some (nI ((q6 + (N - 1) - 1) / (N - 1))) := by
    unfold f14_yards
    rw [gd_t (by decide), lt_is, lt_is]
    show (f14_up (w 1) (nI N - 1)).bind _ = _
    rw [w6, eN, up14 (by omega) (by omega)]
    rfl
  have e0 : f14_manOf (nI m) 0 w = some (nI h) := by
    rw [show (0 : Int32) = nI 0 from rfl, manOf_is hm12 (by decide), ← wh]
    rfl
  unfold f10_time f14_timeOf
  simp only [lt_is]
  rw [eN, g6, up1 (by omega) (by omega), bind_is, gd_t (by decide), e4, eman, bind_is, bind_is, eh]
  by_cases c0 : p = 0
  · subst c0
    refine ⟨h + (q9 + G), by omega, by omega, ?_, ?_⟩
    · rw [if_pos nI_0, g9, nI_add, nI_add]
    · have hne : ¬ nI 0 = nI (N - 1) := fun q => by
        have := (nI_eq (by decide) (by omega)).mp q
        omega
      rw [if_neg hne, if_pos nI_0, gd_t (by decide)]
      show f14_timeOf_j36 (nI N) (nI m) w (w 4) = _
      unfold f14_timeOf_j36
      simp only [lt_is]
      rw [e0, bind_is, ey, bind_is, gd_t (by decide), e4, w9, nI_add, nI_add, show q9 + h + G = h + (q9 + G) by omega]
  · have hn0 : ¬ nI p = 0 := nI_ne0 (by omega) (by omega)
    rw [if_neg hn0]
    by_cases c1 : p = N - 1
    · subst c1
      refine ⟨h + q13, by omega, by omega, ?_, ?_⟩
      · rw [if_pos rfl, g13, nI_add]
      · rw [if_pos rfl, gd_t (by decide)]
        show (f14_manOf (nI m) 0 w).bind (fun r => some (w 8 + r)) = _
        rw [e0, bind_is, w13, nI_add, Nat.add_comm]
    · have hne : ¬ nI p = nI (N - 1) := fun q => c1 ((nI_eq (by omega) (by omega)).mp q)
      refine ⟨h + G, by omega, by omega, ?_, ?_⟩
      · rw [if_neg hne, nI_add]
      · rw [if_neg hne, if_neg hn0]
        unfold f14_timeOf_j36
        simp only [lt_is]
        rw [e0, bind_is, ey, bind_is, gd_t (by decide), e4, show (0 : Int32) = nI 0 from rfl, nI_add, nI_add, Nat.zero_add]
