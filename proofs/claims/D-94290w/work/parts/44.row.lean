/-! the plain law: a row of people, tick by tick -/
set_option maxRecDepth 100000
theorem rm (a d : Nat) : a - a / d * d = a % d := by
  have := Nat.div_add_mod a d
  rw [Nat.mul_comm] at this
  omega
theorem draws_eq {W H : Nat} (hW : W < 2 ^ 30) (hH : H < 2 ^ 30) {w : Nat → Int32} (w3 : w 3 = nI H) (d : Int32) : f9_drawsR (nI H) (nI W) = some (nI (min W H), nI (W - min W H)) ∧ f9_drawsN (nI H) (nI W) = some (nI (min W H), nI (W - min W H)) ∧ f14_draws (nI W) d w = some (nI (min W H), nI (W - min W H), d + nI (min W H)) := by
  have e1 : (if nI W < nI H then nI W else nI H) = nI (min W H) := by
    by_cases h : W < H
    · rw [if_pos (nI_lt h (by omega)), Nat.min_eq_left (by omega)]
    · rw [if_neg (nI_nlt (show H ≤ W by omega) (by omega)), Nat.min_eq_right (by omega)]
  have e2 : nI W - nI (min W H) = nI (W - min W H) := pk_sub (Nat.min_le_left _ _)
  refine ⟨?_, ?_, ?_⟩
  · unfold f9_drawsR
    rw [lt_is, e1, lt_is, e2]
  · unfold f9_drawsN
    rw [lt_is, e1, lt_is, e2]
  · unfold f14_draws f14_draws_j26
    rw [gd_t (show inb (3 : Int32) 800 by decide), lt_is]
    simp only [show (3 : Int32).toNatClampNeg = 3 from rfl, w3]
    by_cases h : H ≤ W
    · rw [if_pos (nI_le h (by omega)), gd_t (show inb (3 : Int32) 800 by decide), lt_is]
      rw [Nat.min_eq_right h] at e2 ⊢
      rw [lt_is, lt_is, e2]
    · rw [if_neg (nI_ge (show W < H by omega) (by omega))]
      rw [Nat.min_eq_left (by omega)] at e2 ⊢
      rw [lt_is, lt_is, e2]
def bz (r : Int32) : Nat := if r = 0 then 0 else 1
/-- a place of the row: litres in hand L, litres in the pails that stand there q -/
def PlR (k : Nat) (d b l s f d' r' l' w' : Int32) (pk que : Nat → Int32) (L : Nat) (q : List Nat) : Prop :=
  d = d' ∧ b = r' ∧ s = nI q.length ∧ w' = nI q.length ∧ l' = nI L ∧ (r' = 0 → L = 0) ∧ (¬ r' = 0 → l = nI L) ∧ (∃ c : Nat, c < 30 ∧ f = nI c ∧ ∀ (i x : Nat), q[i]? = some x → pk ((c + i) % 30) = nI x ∧ que (30 * k + i) = nI x)
/-- t: the tick, bk: how long a pail is on its way back, W0: what was in the well -/
def RowR (N P W0 t bk T0 : Nat) (wat thr emp bf bm dr sp : Int32) (dn bs li st fi bks : Nat → Int32) (pa : Nat → Nat → Int32) (well empty away lit spl ptn drn : Int32) (rest load done queue waits comes : Nat → Int32) : Prop :=
  ∃ (W E F T SP : Nat) (L : Nat → Nat) (q : Nat → List Nat) (B : List Nat),
    (W ≤ W0 ∧ W0 ≤ 9999 ∧ wat = nI W ∧ well = nI W ∧ emp = nI E ∧ empty = nI E ∧ F < 30 ∧ bf = nI F ∧ bm = nI B.length ∧ away = nI B.length) ∧
    (thr = nI T ∧ lit = nI T ∧ sp = nI SP ∧ spl = nI SP ∧ dr = nI (W0 - W) ∧ drn = nI (W0 - W) ∧ ptn = done (N - 1)) ∧
    (∀ k, k < N → PlR k (dn k) (bs k) (li k) (st k) (fi k) (done k) (rest k) (load k) (waits k) (pa k) queue (L k) (q k)) ∧
    ((∀ (i b : Nat), B[i]? = some b → bks ((F + i) % 30) = nI b ∧ comes i = nI b) ∧ (∀ b, b ∈ B → t < b ∧ b ≤ t + bk) ∧ B.Pairwise (· ≤ ·)) ∧
    E + sm (fun k => (q k).length + bz (rest k)) N + B.length = P ∧
    W + T + SP + sm (fun k => L k + lsum (q k)) N = W0 ∧ T0 ≤ T
theorem row_ends {N P W0 t bk T0 : Nat} {wat thr emp bf bm dr sp : Int32} {dn bs li st fi bks : Nat → Int32} {pa : Nat → Nat → Int32} {well empty away lit spl ptn drn : Int32} {rest load done queue waits comes : Nat → Int32} {w : Nat → Int32} {s k : Nat}
    (h : RowR N P W0 t bk T0 wat thr emp bf bm dr sp dn bs li st fi bks pa well empty away lit spl ptn drn rest load done queue waits comes) (hN : 2 ≤ N) (hN2 : N ≤ 12) (hP : P ≤ 30) (hk : k < N) (hr : ¬ rest k = 0) (hb : 1 ≤ bk) (hb2 : bk ≤ 99) (ht : t ≤ 100000) (hs : s ≤ 99) (w6 : w 6 = nI s) (w7 : w 7 = nI bk) :
    Ok (f10_ends (nI k) (nI s) (nI bk) (nI N) thr (nI t) bf bm sp dn li st fi bks pa) (fun x => Ok (f14_finishes (nI k) (nI N) (nI t) away lit spl ptn w load done queue waits comes) (fun y => RowR N P W0 t bk T0 wat x.1 emp bf x.2.1 dr x.2.2.1 x.2.2.2.1 (upd bs k 0) li x.2.2.2.2.1 fi x.2.2.2.2.2.1 x.2.2.2.2.2.2 well empty y.1 y.2.1 y.2.2.1 y.2.2.2.1 drn (upd rest k 0) y.2.2.2.2.1 y.2.2.2.2.2.1 y.2.2.2.2.2.2.1 y.2.2.2.2.2.2.2.1 y.2.2.2.2.2.2.2.2)) := by
  obtain ⟨W, E, F, T, SP, L, q, B, ⟨hW, hW0, rfl, rfl, rfl, rfl, hF, rfl, rfl, rfl⟩, ⟨rfl, rfl, rfl, rfl, rfl, rfl, rfl⟩, hpl, ⟨hB1, hB2, hB3⟩, hcnt, hsum⟩ := h
  obtain ⟨e1, e2, e3, e4, e5, e6, e7, c, hc, e8, hq⟩ := hpl k hk
  have hll := e7 hr
  have hbz : bz (rest k) = 1 := if_neg hr
  have hle := sm_le (f := fun k => (q k).length + bz (rest k)) hk
  have hLe := sm_le (f := fun k => L k + lsum (q k)) hk
  try dsimp only at hle
  try dsimp only at hLe
  rw [hbz] at hle
  by_cases hl : k = N - 1
  · have hBl : B.length < 30 := by omega
    have hkN : nI k = nI (N - 1) := by rw [hl]
    unfold f10_ends f14_finishes f14_finishes_j122
    simp (disch := first | assumption | omega | exact inb_nI (by omega) (by omega) | decide) only [lt_is, bind_is, ok_some, gd_t, nI_clamp, nI_add, pk_mul, pk_sub, nI_leI, nI_ltI, nI_eq, if_true, if_false, z_0, z_1, z_2, z_3, z_4, z_5, z_6, z_7, z_8, z_9, z_10, z_11, z_12, z_16, z_20, z_21, z_30, z_59, z_60, z_64, z_100, z_130, z_177, z_192, z_200, z_999, z_3600, w7, rm, pk_div, if_pos hl, hll, e5, e1]
    have hsum2 := sm_one (f := fun j => (if j = k then 0 else L j) + lsum (q j)) (g := fun j => L j + lsum (q j)) hk (fun j _ hj => by rw [if_neg hj])
    try dsimp only at hsum2
    rw [if_pos rfl] at hsum2
    have hcnt2 := sm_one (f := fun j => (q j).length + bz (upd rest k 0 j)) (g := fun j => (q j).length + bz (rest j)) hk (fun j _ hj => by rw [pk_un hj])
    try dsimp only at hcnt2
    rw [pk_us, hbz, show bz 0 = 0 from rfl] at hcnt2
    refine ⟨W, E, F, T + L k, SP, (fun j => if j = k then 0 else L j), q, B ++ [t + bk], ⟨hW, hW0, rfl, rfl, rfl, rfl, hF, rfl, ?_, ?_⟩, ⟨rfl, rfl, rfl, rfl, rfl, rfl, ?_⟩, ?_, ⟨?_, ?_, ?_⟩, ?_, ?_⟩
    · rw [List.length_append]; rfl
    · rw [List.length_append]; rfl
    · rw [← hl, pk_us]
    · intro j hj
      by_cases e : j = k
      · subst e
        rw [pk_us, pk_us, pk_us, pk_us, pk_us]
        refine ⟨rfl, rfl, e3, e4, ?_, fun _ => if_pos rfl, fun h => absurd rfl h, c, hc, e8, hq⟩
        dsimp only
        rw [if_pos rfl]
      · rw [pk_un e, pk_un e, pk_un e, pk_un e, pk_un e]
        dsimp only
        rw [if_neg e]
        exact hpl j hj
    · intro i b h
      rw [List.getElem?_append] at h
      split at h
      · rename_i hi
        obtain ⟨g1, g2⟩ := hB1 i b h
        rw [pk_un (by omega), pk_un (by omega)]
        exact ⟨g1, g2⟩
      · rename_i hi
        have hi0 : i = B.length ∧ t + bk = b := by
          cases hx : i - B.length with
          | zero =>
            rw [hx] at h
            exact ⟨by omega, Option.some.inj h⟩
          | succ m =>
            rw [hx] at h
            exact absurd h (by simp)
        obtain ⟨rfl, rfl⟩ := hi0
        rw [pk_us, pk_us]
        exact ⟨rfl, rfl⟩
    · intro b hb'
      rcases List.mem_append.mp hb' with h | h
      · exact hB2 b h
      · rw [List.mem_singleton] at h
        subst h
        omega
    · rw [List.pairwise_append]
      refine ⟨hB3, List.pairwise_singleton _ _, fun x hx y hy => ?_⟩
      rw [List.mem_singleton] at hy
      subst hy
      exact (hB2 x hx).2
    · rw [List.length_append]
      show E + sm (fun j => (q j).length + bz (upd rest k 0 j)) N + (B.length + 1) = P
      omega
    · show W + (T + L k) + SP + sm (fun j => (if j = k then 0 else L j) + lsum (q j)) N = W0 ∧ T0 ≤ T + L k
      omega
  · have hk1 : k + 1 < N := by omega
    obtain ⟨f1, f2, f3, f4, f5, f6, f7, c1, hc1, f8, hq1⟩ := hpl (k + 1) hk1
    have hle2 := sm_le2 (f := fun k => (q k).length + bz (rest k)) hk hk1 (by omega)
    try dsimp only at hle2
    rw [hbz] at hle2
    have hlen1 : (q (k + 1)).length < 30 := by omega
    have hlen2 : 30 * (k + 1) + (q (k + 1)).length < 360 := by omega
    have hLs : L k * s ≤ L k * 99 := Nat.mul_le_mul_left _ hs
    have hv : L k * s / 100 ≤ L k := by omega
    have hLs2 : L k * s < 2 ^ 31 := by omega
    unfold f10_ends f14_finishes f14_push f14_finishes_j122
    simp (disch := first | assumption | omega | exact inb_nI (by omega) (by omega) | decide) only [lt_is, bind_is, ok_some, gd_t, nI_clamp, nI_add, pk_mul, pk_sub, nI_leI, nI_ltI, nI_eq, if_true, if_false, z_0, z_1, z_2, z_3, z_4, z_5, z_6, z_7, z_8, z_9, z_10, z_11, z_12, z_16, z_20, z_21, z_30, z_59, z_60, z_64, z_100, z_130, z_177, z_192, z_200, z_999, z_3600, w6, rm, pk_div, if_neg hl, hll, e5, e1, f3, f4, f8]
    generalize hvv : L k * s / 100 = v at hv
    have hsum2 := sm_one (f := fun j => (if j = k then 0 else L j) + lsum (if j = k + 1 then q (k + 1) ++ [L k - v] else q j)) (g := fun j => L j + lsum (if j = k + 1 then q (k + 1) ++ [L k - v] else q j)) hk (fun j _ hj => by rw [if_neg hj])
    have hsum3 := sm_one (f := fun j => L j + lsum (if j = k + 1 then q (k + 1) ++ [L k - v] else q j)) (g := fun j => L j + lsum (q j)) hk1 (fun j _ hj => by rw [if_neg hj])
    have hcnt2 := sm_one (f := fun j => (if j = k + 1 then q (k + 1) ++ [L k - v] else q j).length + bz (upd rest k 0 j)) (g := fun j => (q j).length + bz (upd rest k 0 j)) hk1 (fun j _ hj => by rw [if_neg hj])
    have hcnt3 := sm_one (f := fun j => (q j).length + bz (upd rest k 0 j)) (g := fun j => (q j).length + bz (rest j)) hk (fun j _ hj => by rw [pk_un hj])
    have hne : ¬ k = k + 1 := by omega
    try dsimp only at hsum2
    try dsimp only at hsum3
    try dsimp only at hcnt2
    try dsimp only at hcnt3
    rw [if_pos rfl, if_neg hne] at hsum2
    rw [if_pos rfl, lsum_app] at hsum3
    rw [if_pos rfl, List.length_append, pk_un (show k + 1 ≠ k by omega)] at hcnt2
    rw [pk_us, hbz, show bz 0 = 0 from rfl] at hcnt3
    have hl1 : ([L k - v] : List Nat).length = 1 := rfl
    rw [hl1] at hcnt2
    refine ⟨W, E, F, T, SP + v, (fun j => if j = k then 0 else L j), (fun j => if j = k + 1 then q (k + 1) ++ [L k - v] else q j), B, ⟨hW, hW0, rfl, rfl, rfl, rfl, hF, rfl, rfl, rfl⟩, ⟨rfl, rfl, rfl, rfl, rfl, rfl, ?_⟩, ?_, ⟨hB1, hB2, hB3⟩, ?_, ?_⟩
    · rw [pk_un (show N - 1 ≠ k by omega)]
    · intro j hj
      dsimp only
      by_cases e : j = k
      · subst e
        rw [pk_us, pk_us, pk_us, pk_us, pk_us, pk_un (show j ≠ j + 1 by omega), pk_un (show j ≠ j + 1 by omega), if_pos rfl, if_neg hne]
        refine ⟨rfl, rfl, e3, e4, rfl, fun _ => rfl, fun h => absurd rfl h, c, hc, e8, fun i x hx => ?_⟩
        obtain ⟨g1, g2⟩ := hq i x hx
        unfold a_up
        rw [if_neg hne, pk_un (by have := (List.getElem?_eq_some_iff.mp hx).1; omega)]
        exact ⟨g1, g2⟩
      · rw [pk_un e, pk_un e, pk_un e, pk_un e, pk_un e, if_neg e]
        by_cases e2' : j = k + 1
        · subst e2'
          rw [pk_us, pk_us, if_pos rfl]
          refine ⟨f1, f2, ?_, ?_, f5, f6, f7, c1, hc1, f8, fun i x hx => ?_⟩
          · rw [List.length_append]; rfl
          · rw [List.length_append]; rfl
          · rw [List.getElem?_append] at hx
            unfold a_up
            rw [if_pos rfl]
            split at hx
            · rename_i hi
              obtain ⟨g1, g2⟩ := hq1 i x hx
              rw [pk_un (by omega), pk_un (by omega)]
              exact ⟨g1, g2⟩
            · rename_i hi
              have hi0 : i = (q (k + 1)).length ∧ L k - v = x := by
                cases hx2 : i - (q (k + 1)).length with
                | zero =>
                  rw [hx2] at hx
                  exact ⟨by omega, Option.some.inj hx⟩
                | succ m =>
                  rw [hx2] at hx
                  exact absurd hx (by simp)
              obtain ⟨rfl, rfl⟩ := hi0
              rw [pk_us, pk_us]
              exact ⟨rfl, rfl⟩
        · rw [pk_un e2', pk_un e2', if_neg e2']
          obtain ⟨d1, d2, d3, d4, d5, d6, d7, c2, hc2, d8, hq2⟩ := hpl j hj
          refine ⟨d1, d2, d3, d4, d5, d6, d7, c2, hc2, d8, fun i x hx => ?_⟩
          obtain ⟨g1, g2⟩ := hq2 i x hx
          have hlj := sm_le (f := fun k => (q k).length + bz (rest k)) hj
          try dsimp only at hlj
          unfold a_up
          rw [if_neg e2', pk_un (by have := (List.getElem?_eq_some_iff.mp hx).1; omega)]
          exact ⟨g1, g2⟩
    · show E + sm (fun j => (if j = k + 1 then q (k + 1) ++ [L k - v] else q j).length + bz (upd rest k 0 j)) N + B.length = P
      omega
    · show W + T + (SP + v) + sm (fun j => (if j = k then 0 else L j) + lsum (if j = k + 1 then q (k + 1) ++ [L k - v] else q j)) N = W0 ∧ T0 ≤ T
      omega
/-- the first pail of a queue is taken, the others move up -/
theorem shift_ok {k len : Nat} {que wa : Nat → Int32} (hk : k < 12) (hl : len + 1 ≤ 30) (hw : wa k = nI (len + 1)) : Ok (f14_shift (nI k) que wa) (fun y => y.1 = que (30 * k) ∧ (∀ i, i < len → y.2.1 (30 * k + i) = que (30 * k + i + 1)) ∧ (∀ j, (j < 30 * k ∨ 30 * k + len ≤ j) → y.2.1 j = que j) ∧ y.2.2 = upd wa k (nI len)) := by
  unfold f14_shift
  rw [show (30 : Int32) = nI 30 from rfl, show (1 : Int32) = nI 1 from rfl]
  simp only [lt_is, pk_mul]
  rw [gd_t (inb_nI (show 30 * k < 360 by omega) (by decide)), gd_t (inb_nI hk (by decide)), gd_t (inb_nI hk (by decide)), nI_clamp (show 30 * k < 2 ^ 31 by omega), nI_clamp (show k < 2 ^ 31 by omega), hw, pk_sub (by omega), show len + 1 - 1 = len by omega]
  refine ok_b (Q := fun z => (∀ i, i < len → z (30 * k + i) = que (30 * k + i + 1)) ∧ (∀ j, (j < 30 * k ∨ 30 * k + len ≤ j) → z j = que j)) ?_ ?_
  · refine for_ok (fun i (x : Nat → Int32) => (nI i, x)) (fun i z => (∀ q, q < i → z (30 * k + q) = que (30 * k + q + 1)) ∧ (∀ j, (j < 30 * k ∨ 30 * k + i ≤ j) → z j = que j)) len (by omega) ⟨fun q h => absurd h (Nat.not_lt_zero _), fun j _ => rfl⟩ ?_ ?_
    · rintro i z hi ⟨h1, h2⟩
      dsimp only
      unfold f14_shift_s9
      rw [gd_t (inb_nI hk (by decide)), lt_is, nI_clamp (show k < 2 ^ 31 by omega), pk_us, if_neg (nI_ge hi (by omega)), show (30 : Int32) = nI 30 from rfl]
      simp only [lt_is, pk_mul, nI_add, nI_1]
      rw [gd_t (inb_nI (show 30 * k + i + 1 < 360 by omega) (by decide)), gd_t (inb_nI (show 30 * k + i < 360 by omega) (by decide)), nI_clamp (show 30 * k + i + 1 < 2 ^ 31 by omega), nI_clamp (show 30 * k + i < 2 ^ 31 by omega)]
      refine ok_i ⟨_, rfl, fun q hq => ?_, fun j hj => ?_⟩
      · by_cases e : q = i
        · subst e
          rw [pk_us]
          exact h2 _ (by omega)
        · rw [pk_un (by omega)]
          exact h1 q (by omega)
      · rw [pk_un (by omega)]
        exact h2 j (by omega)
    · rintro z ⟨h1, h2⟩
      dsimp only
      unfold f14_shift_s9
      rw [gd_t (inb_nI hk (by decide)), lt_is, nI_clamp (show k < 2 ^ 31 by omega), pk_us, if_pos (nI_le (Nat.le_refl _) (by omega))]
      exact ok_i ⟨z, rfl, h1, h2⟩
  · rintro z ⟨h1, h2⟩
    exact ok_i ⟨rfl, h1, h2, rfl⟩
theorem pow_eq {M C R P : Nat} {g fuel burns : Nat → Int32} {men : Nat → Option Nat} {IM : Nat → Nat → Int32} {w : Nat → Int32} (hY : YV M C R P g fuel burns men IM w) {k m : Nat} (hk : k < 12) (hm : m < M) {a1 : Nat → Int32} (e1 : a1 k = nI m) : ∃ (p a : Nat), f9_manR (nI k) a1 men = some (some a) ∧ IM 1203 a = nI p ∧ f14_manOf (nI m) 2 w = some (nI p) := by
  obtain ⟨⟨hM, -⟩, -, -, -, hmen, -⟩ := hY
  obtain ⟨a, h, pc, pw, ha, -, -, -, -, -, -, -, ep, wp⟩ := hmen m hm
  refine ⟨pw, a, ?_, ep, ?_⟩
  · unfold f9_manR
    rw [gd_t (inb_nI hk (by decide)), lt_is, nI_clamp (by omega), e1, gd_t (inb_nI (show m < 12 by omega) (by decide)), lt_is, nI_clamp (by omega), ha]
  · rw [show (2 : Int32) = nI 2 from rfl, manOf_is (by omega) (by decide), ← wp]
def RowY (N P W0 t bk T0 : Nat) (bf : Int32) (y : Int32 × Int32 × Int32 × Int32 × Int32 × Int32 × (Nat → Int32) × (Nat → Int32) × (Nat → Int32) × (Nat → Int32) × (Nat → Int32) × (Nat → Int32) × (Nat → Nat → Int32)) (y2 : Int32 × Int32 × Int32 × Int32 × Int32 × Int32 × Int32 × (Nat → Int32) × (Nat → Int32) × (Nat → Int32) × (Nat → Int32) × (Nat → Int32) × (Nat → Int32)) : Prop :=
  RowR N P W0 t bk T0 y.1 y.2.1 y.2.2.1 bf y.2.2.2.1 y.2.2.2.2.1 y.2.2.2.2.2.1 y.2.2.2.2.2.2.1 y.2.2.2.2.2.2.2.1 y.2.2.2.2.2.2.2.2.1 y.2.2.2.2.2.2.2.2.2.1 y.2.2.2.2.2.2.2.2.2.2.1 y.2.2.2.2.2.2.2.2.2.2.2.1 y.2.2.2.2.2.2.2.2.2.2.2.2 y2.1 y2.2.1 y2.2.2.1 y2.2.2.2.1 y2.2.2.2.2.1 y2.2.2.2.2.2.1 y2.2.2.2.2.2.2.1 y2.2.2.2.2.2.2.2.1 y2.2.2.2.2.2.2.2.2.1 y2.2.2.2.2.2.2.2.2.2.1 y2.2.2.2.2.2.2.2.2.2.2.1 y2.2.2.2.2.2.2.2.2.2.2.2.1 y2.2.2.2.2.2.2.2.2.2.2.2.2
theorem ptn_eq {N k : Nat} {f : Nat → Int32} {x : Int32} (h : k ≠ N - 1) : f (N - 1) = upd f k x (N - 1) := (pk_un (fun e => h e.symm)).symm
/-- a place takes up the next pail, if it can -/
theorem row_j {N P W0 t bk T0 k H M C R PP : Nat} {g fuel burns : Nat → Int32} {men : Nat → Option Nat} {IM : Nat → Nat → Int32} {w : Nat → Int32} (hY : YV M C R PP g fuel burns men IM w) {a1 team : Nat → Int32} {wat thr emp bf bm dr sp : Int32} {dn bs li st fi bks : Nat → Int32} {pa : Nat → Nat → Int32} {well empty away lit spl ptn drn : Int32} {rest load done queue waits comes : Nat → Int32}
    (h : RowR N P W0 t bk T0 wat thr emp bf bm dr sp dn bs li st fi bks pa well empty away lit spl ptn drn rest load done queue waits comes) (hN : 2 ≤ N) (hN2 : N ≤ 12) (hP : P ≤ 30) (hk : k < N) (hT : ∀ k, k < N → ∃ m, m < M ∧ a1 k = nI m ∧ team k = nI m) (hH : H ≤ 20) (w3 : w 3 = nI H) :
    Ok (f10_ticks_j103 (g 306) (nI H) (g 309) (g 313) (nI N) a1 men (IM 1201) (IM 1203) (nI k) wat emp dr li fi thr bm sp dn bs st bks pa) (fun o => Ok (f14_rowTick_j117 (nI N) w team (nI k) well empty drn away lit spl ptn rest load done queue waits comes) (fun q => ∃ y y2, o = .inl (nI k + (-1), y) ∧ q = .inl (nI k + (-1), y2) ∧ RowY N P W0 t bk T0 bf y y2)) := by
  have h0 := h
  obtain ⟨W, E, F, T, SP, L, q, B, ⟨hW, hW0, rfl, rfl, rfl, rfl, hF, rfl, rfl, rfl⟩, ⟨rfl, rfl, rfl, rfl, rfl, rfl, rfl⟩, hpl, ⟨hB1, hB2, hB3⟩, hcnt, hsum⟩ := h
  obtain ⟨e1, e2, e3, e4, e5, e6, e7, c, hc, e8, hq⟩ := hpl k hk
  obtain ⟨m, hm, ha1, hte⟩ := hT k hk
  obtain ⟨tm, htm1, htm2, et1, et14⟩ := time_eq hY hN hN2 hk hm ha1
  obtain ⟨pw, am, em1, em2, em14⟩ := pow_eq hY (show k < 12 by omega) hm ha1
  have hk12 : inb (nI k) 12 := inb_nI (by omega) (by decide)
  have hkc : (nI k).toNatClampNeg = k := nI_clamp (by omega)
  unfold f10_ticks_j103 f14_rowTick_j117 f10_ticks_j147 f14_rowTick_j131
  rw [gd_t hk12, gd_t hk12]
  simp only [lt_is, hkc, e2]
  have same : RowY N P W0 t bk T0 (nI F) (nI W, nI T, nI E, nI B.length, nI (W0 - W), nI SP, dn, bs, li, st, fi, bks, pa) (nI W, nI E, nI B.length, nI T, nI SP, done (N - 1), nI (W0 - W), rest, load, done, queue, waits, comes) := h0
  by_cases hr : rest k = 0
  · rw [if_pos hr, if_pos hr]
    have hL0 := e6 hr
    have hlen : ∀ j, j < N → (q j).length ≤ 30 := fun j hj => by
      have := sm_le (f := fun k => (q k).length + bz (rest k)) hj
      try dsimp only at this
      omega
    have hbz : bz (rest k) = 0 := if_pos hr
    -- how long he is busy
    obtain ⟨mu, hmu, hst, htu⟩ : ∃ mu : Nat, (mu = 1 ∨ mu = 2) ∧ (∀ (a b d : Int32) (g1 g2 g3 g4 : Nat → Int32) (g5 : Nat → Nat → Int32), f10_starts (nI k) (g 306) (nI H) (g 309) (g 313) (nI N) a b d a1 dn g1 g2 g3 g4 men (IM 1201) (IM 1203) g5 = f10_starts_j35 (nI k) (nI H) a b d g1 g2 g3 g4 g5 (nI tm) (nI mu)) ∧ (∀ (a b d : Int32) (g1 g2 g3 g4 : Nat → Int32), f14_takesUp_j69 (nI k) (nI N) w team g1 done a b d g2 g3 g4 = f14_takesUp_j114 (nI k) g1 a b d g2 g3 g4 (nI tm) (nI mu)) := by
      by_cases hd : done k < (10 : Int32) * nI pw
      · refine ⟨1, Or.inl rfl, fun a b d g1 g2 g3 g4 g5 => ?_, fun a b d g1 g2 g3 g4 => ?_⟩
        · unfold f10_starts
          rw [et1, bind_is, gd_t hk12, lt_is, em1, bind_is, bind_is, lt_is, lt_is, em2, hkc, e1, if_pos hd]
          rfl
        · unfold f14_takesUp_j69
          rw [gd_t hk12, lt_is]
          simp only [hkc, hte]
          rw [et14, bind_is, gd_t hk12, lt_is, em14, bind_is, lt_is, if_pos hd]
          rfl
      · refine ⟨2, Or.inr rfl, fun a b d g1 g2 g3 g4 g5 => ?_, fun a b d g1 g2 g3 g4 => ?_⟩
        · unfold f10_starts
          rw [et1, bind_is, gd_t hk12, lt_is, em1, bind_is, bind_is, lt_is, lt_is, em2, hkc, e1, if_neg hd]
          rfl
        · unfold f14_takesUp_j69
          rw [gd_t hk12, lt_is]
          simp only [hkc, hte]
          rw [et14, bind_is, gd_t hk12, lt_is, em14, bind_is, lt_is, if_neg hd]
          rfl
    have hT0 : ¬ nI (tm * mu) = 0 := by
      refine nI_ne0 ?_ ?_
      · rcases hmu with rfl | rfl <;> omega
      · rcases hmu with rfl | rfl <;> omega
    have hbzT : bz (nI (tm * mu)) = 1 := if_neg hT0
    unfold f14_takesUp
    by_cases hk0 : k = 0
    · subst hk0
      rw [if_pos (show nI 0 = 0 from rfl), if_pos (show nI 0 = 0 from rfl)]
      by_cases hE : E = 0
      · rw [if_pos (show nI E ≤ 0 by rw [hE]; decide), if_pos (show nI E = 0 by rw [hE]; rfl), bind_is, gd_t hk12]
        exact ok_i (ok_i ⟨_, _, rfl, rfl, same⟩)
      · rw [if_neg (nI_nle (show 0 < E by omega) (by omega)), if_neg (nI_ne0 (show 0 < E by omega) (by omega))]
        by_cases hWz : W = 0
        · rw [if_pos (show nI W ≤ 0 by rw [hWz]; decide), if_pos (show nI W = 0 by rw [hWz]; rfl), bind_is, gd_t hk12]
          exact ok_i (ok_i ⟨_, _, rfl, rfl, same⟩)
        · rw [if_neg (nI_nle (show 0 < W by omega) (by omega)), if_neg (nI_ne0 (show 0 < W by omega) (by omega))]
          obtain ⟨dw1, -, dw14⟩ := draws_eq (show W < 2 ^ 30 by omega) (show H < 2 ^ 30 by omega) w3 (nI (W0 - W))
          have hv : min W H ≤ W := Nat.min_le_left _ _
          generalize min W H = v at dw1 dw14 hv
          unfold f10_ticks_j142 f10_ticks_j147 f14_takesUp_j31
          rw [hst, if_pos (show nI 0 = 0 from rfl)]
          simp only [lt_is]
          rw [dw14, bind_is, gd_t (show inb (0 : Int32) 12 by decide), htu, show (0 : Int32).toNatClampNeg = 0 from rfl]
          unfold f10_starts_j35 f14_takesUp_j114
          simp (disch := first | assumption | omega | exact inb_nI (by omega) (by omega) | decide) only [lt_is, bind_is, ok_some, gd_t, nI_clamp, nI_add, pk_mul, pk_sub, nI_leI, nI_ltI, nI_eq, if_true, if_false, z_0, z_1, z_2, z_3, z_4, z_5, z_6, z_7, z_8, z_9, z_10, z_11, z_12, z_16, z_20, z_21, z_30, z_59, z_60, z_64, z_100, z_130, z_177, z_192, z_200, z_999, z_3600, dw1, pk_us]
          have hsum2 := sm_one (f := fun j => (if j = 0 then v else L j) + lsum (q j)) (g := fun j => L j + lsum (q j)) hk (fun j _ hj => by rw [if_neg hj])
          have hcnt2 := sm_one (f := fun j => (q j).length + bz (upd rest 0 (nI (tm * mu)) j)) (g := fun j => (q j).length + bz (rest j)) hk (fun j _ hj => by rw [pk_un hj])
          try dsimp only at hsum2
          try dsimp only at hcnt2
          rw [if_pos rfl, hL0] at hsum2
          rw [pk_us, hbz, hbzT] at hcnt2
          refine ⟨_, _, rfl, rfl, W - v, E - 1, F, T, SP, (fun j => if j = 0 then v else L j), q, B, ⟨by omega, hW0, rfl, rfl, rfl, rfl, hF, rfl, rfl, rfl⟩, ⟨rfl, rfl, rfl, rfl, ?_, ?_, rfl⟩, ?_, ⟨hB1, hB2, hB3⟩, ?_, ?_⟩
          · dsimp only
            rw [show W0 - W + v = W0 - (W - v) by omega]
          · dsimp only
            rw [show W0 - W + v = W0 - (W - v) by omega]
          · intro j hj
            dsimp only
            by_cases e : j = 0
            · subst e
              rw [pk_us, pk_us, pk_us, pk_us, if_pos rfl]
              exact ⟨e1, rfl, e3, e4, rfl, fun h => absurd h hT0, fun _ => rfl, c, hc, e8, hq⟩
            · rw [pk_un e, pk_un e, pk_un e, pk_un e, if_neg e]
              exact hpl j hj
          · show E - 1 + sm (fun j => (q j).length + bz (upd rest 0 (nI (tm * mu)) j)) N + B.length = P
            omega
          · show W - v + T + SP + sm (fun j => (if j = 0 then v else L j) + lsum (q j)) N = W0 ∧ T0 ≤ T
            omega
    · have hkn : ¬ nI k = 0 := nI_ne0 (by omega) (by omega)
      rw [if_neg hkn, if_neg hkn, gd_t hk12, gd_t hk12]
      simp only [lt_is, hkc]
      rw [e3, e4]
      cases hqk : q k with
      | nil =>
        rw [if_pos (show nI ([] : List Nat).length ≤ 0 by decide), if_pos (show nI ([] : List Nat).length = 0 by decide), bind_is]
        exact ok_i (ok_i ⟨_, _, rfl, rfl, same⟩)
      | cons x r =>
        have hll : (x :: r).length = r.length + 1 := rfl
        have hl30 := hlen k hk
        rw [hqk, hll] at hl30
        rw [hqk, hll] at e3 e4
        rw [hll, if_neg (nI_nle (show 0 < r.length + 1 by omega) (by omega)), if_neg (nI_ne0 (show 0 < r.length + 1 by omega) (by omega))]
        unfold f10_ticks_j142 f10_ticks_j147 f14_takesUp_j31
        rw [hst, if_neg hkn]
        obtain ⟨y, ey, y1, y2, y3, y4⟩ := shift_ok (que := queue) (wa := waits) (show k < 12 by omega) hl30 e4
        obtain ⟨g1, g2⟩ := hq 0 x (by rw [hqk]; rfl)
        rw [Nat.add_zero] at g1 g2
        rw [ey, bind_is, gd_t hk12, lt_is, htu, hkc, y1, g2, y4]
        unfold f10_starts_j35 f14_takesUp_j114
        have hc30 : c % 30 = c := Nat.mod_eq_of_lt hc
        rw [hc30] at g1
        simp (disch := first | assumption | omega | exact inb_nI (by omega) (by omega) | decide) only [lt_is, bind_is, ok_some, gd_t, nI_clamp, nI_add, pk_mul, pk_sub, nI_leI, nI_ltI, nI_eq, if_true, if_false, z_0, z_1, z_2, z_3, z_4, z_5, z_6, z_7, z_8, z_9, z_10, z_11, z_12, z_16, z_20, z_21, z_30, z_59, z_60, z_64, z_100, z_130, z_177, z_192, z_200, z_999, z_3600, if_neg hk0, e3, e8, g1, rm, pk_div]
        have hsum2 := sm_one (f := fun j => (if j = k then x else L j) + lsum (if j = k then r else q j)) (g := fun j => L j + lsum (q j)) hk (fun j _ hj => by rw [if_neg hj, if_neg hj])
        have hcnt2 := sm_one (f := fun j => (if j = k then r else q j).length + bz (upd rest k (nI (tm * mu)) j)) (g := fun j => (q j).length + bz (rest j)) hk (fun j _ hj => by rw [if_neg hj, pk_un hj])
        try dsimp only at hsum2
        try dsimp only at hcnt2
        rw [if_pos rfl, if_pos rfl, hL0, hqk] at hsum2
        rw [if_pos rfl, pk_us, hbz, hbzT, hqk, hll] at hcnt2
        have hls : lsum (x :: r) = x + lsum r := rfl
        rw [hls] at hsum2
        refine ⟨_, _, rfl, rfl, W, E, F, T, SP, (fun j => if j = k then x else L j), (fun j => if j = k then r else q j), B, ⟨hW, hW0, rfl, rfl, rfl, rfl, hF, rfl, rfl, rfl⟩, ⟨rfl, rfl, rfl, rfl, rfl, rfl, rfl⟩, ?_, ⟨hB1, hB2, hB3⟩, ?_, ?_⟩
        · intro j hj
          dsimp only
          by_cases e : j = k
          · subst e
            rw [pk_us, pk_us, pk_us, pk_us, pk_us, pk_us, pk_us, if_pos rfl, if_pos rfl]
            refine ⟨e1, rfl, rfl, rfl, rfl, fun h => absurd h hT0, fun _ => rfl, (c + 1) % 30, Nat.mod_lt _ (by decide), rfl, fun i z hz => ?_⟩
            obtain ⟨g3, g4⟩ := hq (i + 1) z (by rw [hqk]; exact hz)
            have hi := (List.getElem?_eq_some_iff.mp hz).1
            rw [y2 i hi, show 30 * j + i + 1 = 30 * j + (i + 1) by omega, show ((c + 1) % 30 + i) % 30 = (c + (i + 1)) % 30 by omega]
            exact ⟨g3, g4⟩
          · rw [pk_un e, pk_un e, pk_un e, pk_un e, pk_un e, pk_un e, pk_un e, if_neg e, if_neg e]
            obtain ⟨d1, d2, d3, d4, d5, d6, d7, c2, hc2, d8, hq2⟩ := hpl j hj
            refine ⟨d1, d2, d3, d4, d5, d6, d7, c2, hc2, d8, fun i z hz => ?_⟩
            obtain ⟨g3, g4⟩ := hq2 i z hz
            have hi := (List.getElem?_eq_some_iff.mp hz).1
            have hlj := hlen j hj
            rw [y3 _ (by omega)]
            exact ⟨g3, g4⟩
        · show E + sm (fun j => (if j = k then r else q j).length + bz (upd rest k (nI (tm * mu)) j)) N + B.length = P
          omega
        · show W + T + SP + sm (fun j => (if j = k then x else L j) + lsum (if j = k then r else q j)) N = W0 ∧ T0 ≤ T
          omega
  · rw [if_neg hr, if_neg hr, gd_t hk12]
    exact ok_i (ok_i ⟨_, _, rfl, rfl, same⟩)
theorem nI_m1 (k : Nat) : nI (k + 1) + (-1 : Int32) = nI k := pk_m1 k
/-- pails that come back -/
def BackJ (K T1 bk : Nat) (bks : Nat → Int32) (k : Nat) (s : Int32 × Int32 × Int32) (t : Int32 × Int32 × (Nat → Int32)) : Prop :=
  ∃ (E F : Nat) (B : List Nat), k = B.length ∧ s = (nI E, nI F, nI B.length) ∧ t.1 = nI E ∧ t.2.1 = nI B.length ∧ F < 30 ∧ (∀ i b, B[i]? = some b → bks ((F + i) % 30) = nI b ∧ t.2.2 i = nI b) ∧ (∀ b, b ∈ B → T1 ≤ b ∧ b ≤ T1 + bk) ∧ B.Pairwise (· ≤ ·) ∧ E + B.length = K
def BackR (K T1 bk : Nat) (bks : Nat → Int32) (s : Int32 × Int32 × Int32) (t : Int32 × Int32 × (Nat → Int32)) : Prop :=
  ∃ (E F : Nat) (B : List Nat), s = (nI E, nI F, nI B.length) ∧ t.1 = nI E ∧ t.2.1 = nI B.length ∧ F < 30 ∧ (∀ i b, B[i]? = some b → bks ((F + i) % 30) = nI b ∧ t.2.2 i = nI b) ∧ (∀ b, b ∈ B → T1 < b ∧ b ≤ T1 + bk) ∧ B.Pairwise (· ≤ ·) ∧ E + B.length = K
theorem shift_come {len : Nat} (hl : len + 1 ≤ 30) (co : Nat → Int32) : Ok (whl (fun (s40 : Int32 × (Nat → Int32)) => f14_rowTick_s40 (nI len) s40.1 s40.2) FU ((0 : Int32), co)) (fun z => ∀ i, i < len → z i = co (i + 1)) := by
  refine ok_w (for_ok (P := fun z => ∀ i, i < len → z i = co (i + 1)) (fun i (x : Nat → Int32) => (nI i, x)) (fun i z => (∀ q, q < i → z q = co (q + 1)) ∧ ∀ q, i ≤ q → z q = co q) len (by omega) ⟨fun q h => absurd h (Nat.not_lt_zero _), fun q _ => rfl⟩ ?_ ?_) (fun z h => h)
  · rintro i z hi ⟨h1, h2⟩
    dsimp only
    unfold f14_rowTick_s40
    rw [if_neg (nI_ge hi (by omega))]
    simp (disch := first | assumption | omega | exact inb_nI (by omega) (by omega) | decide) only [lt_is, bind_is, ok_some, gd_t, nI_clamp, nI_add, pk_mul, pk_sub, nI_leI, nI_ltI, nI_eq, if_true, if_false, z_0, z_1, z_2, z_3, z_4, z_5, z_6, z_7, z_8, z_9, z_10, z_11, z_12, z_16, z_20, z_21, z_30, z_59, z_60, z_64, z_100, z_130, z_177, z_192, z_200, z_999, z_3600]
    refine ⟨_, rfl, fun q hq => ?_, fun q hq => ?_⟩
    · by_cases e : q = i
      · subst e
        rw [pk_us]
        exact h2 _ (by omega)
      · rw [pk_un e]
        exact h1 q (by omega)
    · rw [pk_un (by omega)]
      exact h2 q (by omega)
  · rintro z ⟨h1, h2⟩
    dsimp only
    unfold f14_rowTick_s40
    rw [if_pos (nI_le (Nat.le_refl _) (by omega))]
    exact ok_i ⟨z, rfl, h1⟩
theorem back_ok {K T1 bk : Nat} {bks : Nat → Int32} (hK : K ≤ 30) (hT : T1 ≤ 100001) (hb2 : bk ≤ 99) {s : Int32 × Int32 × Int32} {t : Int32 × Int32 × (Nat → Int32)} {k : Nat} (h : BackJ K T1 bk bks k s t) : Ok (whl (fun (s1 : Int32 × Int32 × Int32) => f10_ticks_s1 (nI T1) bks s1.1 s1.2.1 s1.2.2) FU s) (fun x => Ok (whl (fun (s1 : Int32 × Int32 × (Nat → Int32)) => f14_rowTick_s1 (nI T1) s1.1 s1.2.1 s1.2.2) FU t) (fun y => BackR K T1 bk bks x y)) := by
  have hk : k < 100000 := by
    obtain ⟨E, F, B, rfl, -, -, -, -, -, -, -, hE⟩ := h
    omega
  refine ok_lp2 (BackJ K T1 bk bks) hk h ?_
  rintro k s ⟨t1, t2, t3⟩ ⟨E, F, B, rfl, rfl, e1, e2, hF, hB, hB2, hB3, hE⟩
  dsimp only at e1 e2 hB ⊢
  subst e1 e2
  unfold f10_ticks_s1 f14_rowTick_s1 f14_rowTick_e40_0
  cases B with
  | nil =>
    rw [if_pos (show nI ([] : List Nat).length ≤ 0 by decide)]
    exact ok_i (ok_i ⟨E, F, [], rfl, rfl, rfl, hF, hB, fun b h => absurd h (by simp), hB3, hE⟩)
  | cons b r =>
    have hlen : (b :: r).length = r.length + 1 := rfl
    rw [hlen] at hE ⊢
    obtain ⟨g1, g2⟩ := hB 0 b rfl
    obtain ⟨b1, b2⟩ := hB2 b (by simp)
    rw [Nat.add_zero, Nat.mod_eq_of_lt hF] at g1
    rw [if_neg (nI_nle (show 0 < r.length + 1 by omega) (by omega)), if_neg (nI_nle (show 0 < r.length + 1 by omega) (by omega)), gd_t (inb_nI hF (by decide)), gd_t (show inb (0 : Int32) 30 by decide)]
    simp only [lt_is, show (0 : Int32).toNatClampNeg = 0 from rfl, g2]
    rw [nI_clamp (by omega), g1]
    by_cases e : b = T1
    · subst e
      rw [if_pos rfl, if_neg (nI_nlt (Nat.le_refl _) (by omega)), show nI (r.length + 1) - (1 : Int32) = nI r.length from nI_pred _]
      obtain ⟨z, ez, hz⟩ := shift_come (len := r.length) (by omega) t3
      rw [ez, bind_is]
      simp (disch := first | assumption | omega | exact inb_nI (by omega) (by omega) | decide) only [lt_is, bind_is, ok_some, gd_t, nI_clamp, nI_add, pk_mul, pk_sub, nI_leI, nI_ltI, nI_eq, if_true, if_false, z_0, z_1, z_2, z_3, z_4, z_5, z_6, z_7, z_8, z_9, z_10, z_11, z_12, z_16, z_20, z_21, z_30, z_59, z_60, z_64, z_100, z_130, z_177, z_192, z_200, z_999, z_3600, rm, pk_div]
      refine ⟨r.length, by omega, E + 1, (F + 1) % 30, r, rfl, rfl, rfl, rfl, Nat.mod_lt _ (by decide), fun i c hc => ?_, fun c hc => hB2 c (List.mem_cons_of_mem _ hc), (List.pairwise_cons.mp hB3).2, by omega⟩
      obtain ⟨a1, a2⟩ := hB (i + 1) c hc
      have hi := (List.getElem?_eq_some_iff.mp hc).1
      rw [show ((F + 1) % 30 + i) % 30 = (F + (i + 1)) % 30 by omega]
      exact ⟨a1, (hz i hi).trans a2⟩
    · rw [if_neg (show ¬ nI b = nI T1 from fun q => e ((nI_eq (by omega) (by omega)).mp q)), if_pos (nI_lt (show T1 < b by omega) (by omega))]
      refine ok_i (ok_i ⟨E, F, b :: r, rfl, rfl, rfl, hF, hB, fun c hc => ?_, hB3, hE⟩)
      have h1 := hB2 c hc
      rcases List.mem_cons.mp hc with rfl | hc
      · omega
      · have := (List.pairwise_cons.mp hB3).1 c hc
        omega
/-- one who goes on being busy -/
theorem row_dec {N P W0 t bk T0 k : Nat} {wat thr emp bf bm dr sp : Int32} {dn bs li st fi bks : Nat → Int32} {pa : Nat → Nat → Int32} {well empty away lit spl ptn drn : Int32} {rest load done queue waits comes : Nat → Int32}
    (h : RowR N P W0 t bk T0 wat thr emp bf bm dr sp dn bs li st fi bks pa well empty away lit spl ptn drn rest load done queue waits comes) (hr : ¬ rest k = 0) {v : Int32} (hv : ¬ v = 0) : RowR N P W0 t bk T0 wat thr emp bf bm dr sp dn (upd bs k v) li st fi bks pa well empty away lit spl ptn drn (upd rest k v) load done queue waits comes := by
  obtain ⟨W, E, F, T, SP, L, q, B, h1, h2, hpl, h3, hcnt, hsum⟩ := h
  refine ⟨W, E, F, T, SP, L, q, B, h1, h2, fun j hj => ?_, h3, ?_, hsum⟩
  · obtain ⟨e1, e2, e3, e4, e5, e6, e7, e8⟩ := hpl j hj
    by_cases e : j = k
    · subst e
      rw [pk_us, pk_us]
      exact ⟨e1, rfl, e3, e4, e5, fun h => absurd h hv, fun _ => e7 hr, e8⟩
    · rw [pk_un e, pk_un e]
      exact ⟨e1, e2, e3, e4, e5, e6, e7, e8⟩
  · rw [← hcnt]
    congr 2
    refine sm_eq (fun j _ => ?_)
    by_cases e : j = k
    · subst e
      rw [pk_us]
      unfold bz
      rw [if_neg hv, if_neg hr]
    · rw [pk_un e]
def RowT (N P W0 t bk T0 : Nat) (wat thr emp bf bm dr sp : Int32) (dn bs li st fi hp bks : Nat → Int32) (pa : Nat → Nat → Int32) (well empty away lit spl ptn drn : Int32) (rest load done queue waits most comes : Nat → Int32) : Prop :=
  RowR N P W0 t bk T0 wat thr emp bf bm dr sp dn bs li st fi bks pa well empty away lit spl ptn drn rest load done queue waits comes ∧ (∀ k, k < N → hp k = most k) ∧ hp 0 = 0
theorem row_tick {N P W0 t bk T0 H s M C R PP : Nat} {g fuel burns : Nat → Int32} {men : Nat → Option Nat} {IM : Nat → Nat → Int32} {w : Nat → Int32} (hY : YV M C R PP g fuel burns men IM w) {a1 team : Nat → Int32} {wat thr emp bf bm dr sp : Int32} {dn bs li st fi hp bks : Nat → Int32} {pa : Nat → Nat → Int32} {well empty away lit spl ptn drn : Int32} {rest load done queue waits most comes : Nat → Int32}
    (h : RowT N P W0 t bk T0 wat thr emp bf bm dr sp dn bs li st fi hp bks pa well empty away lit spl ptn drn rest load done queue waits most comes) (hN : 2 ≤ N) (hN2 : N ≤ 12) (hP : P ≤ 30) (hT : ∀ k, k < N → ∃ m, m < M ∧ a1 k = nI m ∧ team k = nI m) (hH : H ≤ 20) (w3 : w 3 = nI H) (hb : 1 ≤ bk) (hb2 : bk ≤ 99) (ht : t < 100000) (hs : s ≤ 99) (w6 : w 6 = nI s) (w7 : w 7 = nI bk) :
    Ok (f10_ticks (g 306) (nI H) (g 309) (nI s) (nI bk) (g 313) (nI N) wat thr (nI (t + 1)) emp bf bm dr sp a1 dn bs li st fi hp bks men (IM 1201) (IM 1203) pa) (fun x => Ok (f14_rowTick (nI N) well (nI (t + 1)) empty away lit spl ptn drn w team rest load done queue waits most comes) (fun y => RowT N P W0 (t + 1) bk T0 x.1 x.2.1 x.2.2.1 x.2.2.2.1 x.2.2.2.2.1 x.2.2.2.2.2.1 x.2.2.2.2.2.2.1 x.2.2.2.2.2.2.2.1 x.2.2.2.2.2.2.2.2.1 x.2.2.2.2.2.2.2.2.2.1 x.2.2.2.2.2.2.2.2.2.2.1 x.2.2.2.2.2.2.2.2.2.2.2.1 x.2.2.2.2.2.2.2.2.2.2.2.2.1 x.2.2.2.2.2.2.2.2.2.2.2.2.2.1 x.2.2.2.2.2.2.2.2.2.2.2.2.2.2 y.1 y.2.1 y.2.2.1 y.2.2.2.1 y.2.2.2.2.1 y.2.2.2.2.2.1 y.2.2.2.2.2.2.1 y.2.2.2.2.2.2.2.1 y.2.2.2.2.2.2.2.2.1 y.2.2.2.2.2.2.2.2.2.1 y.2.2.2.2.2.2.2.2.2.2.1 y.2.2.2.2.2.2.2.2.2.2.2.1 y.2.2.2.2.2.2.2.2.2.2.2.2.1 y.2.2.2.2.2.2.2.2.2.2.2.2.2)) := by
  obtain ⟨⟨W, E, F, T, SP, L, q, B, ⟨hW, hW0, rfl, rfl, rfl, rfl, hF, rfl, rfl, rfl⟩, hints, hpl, ⟨hB1, hB2, hB3⟩, hcnt, hsum⟩, hhp, hhp0⟩ := h
  unfold f10_ticks f14_rowTick
  have hJ : BackJ (E + B.length) (t + 1) bk bks B.length (nI E, nI F, nI B.length) (nI E, nI B.length, comes) := ⟨E, F, B, rfl, rfl, rfl, rfl, hF, hB1, fun b hb' => by have := hB2 b hb'; omega, hB3, rfl⟩
  obtain ⟨x1, ex1, y1, ey1, E1, F1, B1, rfl, g1, g2, hF1, hB1', hB2', hB3', hE1⟩ := back_ok (show E + B.length ≤ 30 by omega) (by omega) hb2 hJ
  obtain ⟨y11, y12, y13⟩ := y1
  dsimp only at g1 g2 hB1'
  subst g1 g2
  rw [ex1, bind_is, ey1, bind_is]
  unfold f10_ticks_e1_0 f14_rowTick_e1_0
  simp only [lt_is]
  have hR0 : RowY N P W0 (t + 1) bk T0 (nI F1) (nI W, thr, nI E1, nI B1.length, dr, sp, dn, bs, li, st, fi, bks, pa) (nI W, nI E1, nI B1.length, lit, spl, ptn, drn, rest, load, done, queue, waits, y13) := ⟨W, E1, F1, T, SP, L, q, B1, ⟨hW, hW0, rfl, rfl, rfl, rfl, hF1, rfl, rfl, rfl⟩, hints, hpl, ⟨hB1', fun b hb' => hB2' b hb', hB3'⟩, (by show E1 + sm (fun k => (q k).length + bz (rest k)) N + B1.length = P; omega), hsum⟩
  have hsub : nI N - (1 : Int32) = nI N + (-1 : Int32) := Int32.sub_eq_add_neg ..
  rw [hsub]
  refine ok_b2 (S := fun y y2 => RowY N P W0 (t + 1) bk T0 (nI F1) y y2) ?_ ?_
  · refine ok_lp2 (fun k s1 s2 => ∃ y y2, s1 = (nI k + (-1 : Int32), y) ∧ s2 = (nI k + (-1 : Int32), y2) ∧ k ≤ N ∧ RowY N P W0 (t + 1) bk T0 (nI F1) y y2) (k := N) (by omega) ⟨_, _, rfl, rfl, Nat.le_refl _, hR0⟩ ?_
    rintro k s1 s2 ⟨⟨a0, a2, a3, a4, a5, a6, a7, a8, a9, a10, a11, a12, a13⟩, ⟨c1, c2, c3, c4, c5, c6, c7, c8, c9, c10, c11, c12, c13⟩, rfl, rfl, hkN, hR⟩
    have hR' : RowR N P W0 (t + 1) bk T0 a0 a2 a3 (nI F1) a4 a5 a6 a7 a8 a9 a10 a11 a12 a13 c1 c2 c3 c4 c5 c6 c7 c8 c9 c10 c11 c12 c13 := hR
    dsimp only
    unfold f10_ticks_s3 f14_rowTick_s3
    cases k with
    | zero =>
      rw [if_pos (show nI 0 + (-1 : Int32) < 0 by decide), if_pos (show nI 0 + (-1 : Int32) < 0 by decide)]
      exact ok_i (ok_i hR)
    | succ k =>
      rw [nI_m1, if_neg (nI_pos (by omega)), if_neg (nI_pos (by omega))]
      have hk12 : inb (nI k) 12 := inb_nI (by omega) (by decide)
      have hkc : (nI k).toNatClampNeg = k := nI_clamp (by omega)
      have hbr : a8 k = c8 k := by
        obtain ⟨W', E', F', T', SP', L', q', B', -, -, hpl', -⟩ := hR'
        exact (hpl' k (by omega)).2.1
      have fin : ∀ {a0 a2 a3 a4 a5 a6 : Int32} {a7 a8 a9 a10 a11 a12 : Nat → Int32} {a13 : Nat → Nat → Int32} {c1 c2 c3 c4 c5 c6 c7 : Int32} {c8 c9 c10 c11 c12 c13 : Nat → Int32}, RowR N P W0 (t + 1) bk T0 a0 a2 a3 (nI F1) a4 a5 a6 a7 a8 a9 a10 a11 a12 a13 c1 c2 c3 c4 c5 c6 c7 c8 c9 c10 c11 c12 c13 → Ok (f10_ticks_j103 (g 306) (nI H) (g 309) (g 313) (nI N) a1 men (IM 1201) (IM 1203) (nI k) a0 a3 a5 a9 a11 a2 a4 a6 a7 a8 a10 a12 a13) (fun o => Ok (f14_rowTick_j117 (nI N) w team (nI k) c1 c2 c7 c3 c4 c5 c6 c8 c9 c10 c11 c12 c13) (fun q => st2 (fun k s1 s2 => ∃ y y2, s1 = (nI k + (-1 : Int32), y) ∧ s2 = (nI k + (-1 : Int32), y2) ∧ k ≤ N ∧ RowY N P W0 (t + 1) bk T0 (nI F1) y y2) (fun y y2 => RowY N P W0 (t + 1) bk T0 (nI F1) y y2) (k + 1) o q)) := by
        intro a0 a2 a3 a4 a5 a6 a7 a8 a9 a10 a11 a12 a13 c1 c2 c3 c4 c5 c6 c7 c8 c9 c10 c11 c12 c13 hr
        refine ok_w2 (row_j hY hr hN hN2 hP (show k < N by omega) hT hH w3) ?_
        rintro o q ⟨y, y2, rfl, rfl, hy⟩
        exact ⟨k, Nat.lt_succ_self _, y, y2, rfl, rfl, by omega, hy⟩
      simp only [gd_t hk12, lt_is, hkc, hbr]
      by_cases hle : c8 k ≤ 0
      · rw [if_pos hle, if_pos hle]
        exact fin hR'
      · have hne : ¬ c8 k = 0 := fun e => hle (by rw [e]; decide)
        rw [if_neg hle, if_neg hle]
        simp only [pk_us]
        by_cases hz : c8 k - 1 = 0
        · rw [hz, if_pos rfl, if_pos rfl]
          refine ok_b2 (row_ends (k := k) hR' hN hN2 hP (by omega) hne hb hb2 (by omega) hs w6 w7) ?_
          intro x y hxy
          exact fin hxy
        · rw [if_neg hz, if_neg hz]
          exact fin (row_dec hR' hne hz)
  · rintro ⟨a0, a2, a3, a4, a5, a6, a7, a8, a9, a10, a11, a12, a13⟩ ⟨c1, c2, c3, c4, c5, c6, c7, c8, c9, c10, c11, c12, c13⟩ hR
    unfold f10_ticks_e3_0 f14_rowTick_e3_0
    have hR' : RowR N P W0 (t + 1) bk T0 a0 a2 a3 (nI F1) a4 a5 a6 a7 a8 a9 a10 a11 a12 a13 c1 c2 c3 c4 c5 c6 c7 c8 c9 c10 c11 c12 c13 := hR
    have hsw : ∀ k, k < N → a10 k = c12 k := by
      obtain ⟨W', E', F', T', SP', L', q', B', -, -, hpl', -⟩ := hR'
      intro k hk
      obtain ⟨-, -, e3, e4, -⟩ := hpl' k hk
      rw [e3, e4]
    refine ok_b2 (S := fun x y => ∃ hp2 most2, x = (a0, a2, a3, nI F1, a4, a5, a6, a7, a8, a9, a10, a11, hp2, a12, a13) ∧ y = (c1, c2, c3, c4, c5, c6, c7, c8, c9, c10, c11, c12, most2, c13) ∧ (∀ k, k < N → hp2 k = most2 k) ∧ hp2 0 = 0) ?_ ?_
    · refine for2_ok (fun i (x : Nat → Int32) => (nI (i + 1), x)) (fun i (x : Nat → Int32) => (nI (i + 1), x)) (fun i x y => (∀ k, k < N → x k = y k) ∧ x 0 = 0) (N - 1) (by omega) ⟨hhp, hhp0⟩ ?_ ?_
      · rintro i x y hi ⟨hxy, hx0⟩
        have hi12 : inb (nI (i + 1)) 12 := inb_nI (by omega) (by decide)
        have hic : (nI (i + 1)).toNatClampNeg = i + 1 := nI_clamp (by omega)
        dsimp only
        unfold f10_ticks_s4 f14_rowTick_s4 f14_rowTick_j174
        dsimp only
        rw [if_neg (nI_ge (show i + 1 < N by omega) (by omega)), if_neg (nI_ge (show i + 1 < N by omega) (by omega))]
        simp only [gd_t hi12, lt_is, hic, nI_1]
        rw [hxy (i + 1) (by omega), hsw (i + 1) (by omega)]
        by_cases q : c12 (i + 1) ≤ y (i + 1)
        · have q' : ¬ y (i + 1) < c12 (i + 1) := by
            rw [Int32.lt_iff_toInt_lt]
            rw [Int32.le_iff_toInt_le] at q
            omega
          rw [if_neg q', if_pos q]
          refine ok_i (ok_i ⟨_, _, rfl, rfl, fun k hk => ?_, by rw [pk_un (by omega)]; exact hx0⟩)
          by_cases e : k = i + 1
          · subst e
            rw [pk_us]
          · rw [pk_un e]
            exact hxy k hk
        · have q' : y (i + 1) < c12 (i + 1) := by
            rw [Int32.lt_iff_toInt_lt]
            rw [Int32.le_iff_toInt_le] at q
            omega
          rw [if_pos q', if_neg q]
          refine ok_i (ok_i ⟨_, _, rfl, rfl, fun k hk => ?_, by rw [pk_un (by omega)]; exact hx0⟩)
          by_cases e : k = i + 1
          · subst e
            rw [pk_us, pk_us]
          · rw [pk_un e, pk_un e]
            exact hxy k hk
      · intro x y hxy
        dsimp only
        unfold f10_ticks_s4 f14_rowTick_s4
        dsimp only
        rw [if_pos (nI_le (show N ≤ N - 1 + 1 by omega) (by omega)), if_pos (nI_le (show N ≤ N - 1 + 1 by omega) (by omega))]
        exact ok_i (ok_i ⟨_, _, rfl, rfl, _, _, rfl, rfl, hxy⟩)
    · rintro x y ⟨hp2, most2, rfl, rfl, hh⟩
      exact ok_i (ok_i ⟨hR', hh⟩)
