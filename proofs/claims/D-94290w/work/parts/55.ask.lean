/-! the plain law: running, period, relief, more -/
set_option maxRecDepth 100000
/-- what the model's call leaves: no throw, the tape taken, all that is told laid -/
def Left (bg : Int32) (w : Nat → Int32) (th tp b2 : Int32) (w2 : Nat → Int32) : Prop := th = 0 ∧ tp = nI 0 ∧ b2 = 1 ∧ w2 = layF bg w
theorem ask_use {M n lo hi : Nat} {b : Nat → Nat} {t1 t14 w asked team : Nat → Int32} {bg am tm gM : Int32} (hT : TP b t1 t14) (hn : n ≤ 740) (hM : M ≤ 12) (hbg : bg = 0 ∨ bg = 1) (w0 : layF bg w 0 = nI M) (hlo : lo < 2 ^ 29) (hhi : hi ≤ 12) (gm : gM = nI M) :
    ∃ (x1 x2 : Int32) (x3 : Nat → Int32) (y4 : Int32) (y6 : Nat → Int32), f1_areAsked (nI lo) (nI hi) (nI n) am gM t1 asked = some (x1, x2, x3) ∧ f14_takesTeam (nI lo) (nI hi) 1 (nI n) bg tm t14 w team = some (x1, 0, 1, y4, layF bg w, y6) ∧ (x1 = 0 ∨ x1 = 1 ∧ x2 = nI n ∧ y4 = nI n ∧ lo ≤ n ∧ n ≤ hi ∧ Asked M n x3 y6) := by
  subst gm
  obtain ⟨⟨x1, x2, x3⟩, ex, ⟨y1, y2, y3, y4, y5, y6⟩, ey, ⟨e1, e2, e3⟩, h⟩ := asked_eq (am := am) (tm := tm) (asked := asked) (team := team) hT hn hM hbg w0 hlo hhi
  dsimp only at e1 e2 e3 h
  subst e1 e2 e3
  rcases h with ⟨rfl, rfl⟩ | ⟨rfl, rfl, h⟩
  · exact ⟨0, x2, x3, y4, y6, ex, ey, Or.inl rfl⟩
  · exact ⟨1, x2, x3, y4, y6, ex, ey, Or.inr ⟨rfl, h⟩⟩
theorem Asked.hT {M n : Nat} {a t : Nat → Int32} (h : Asked M n a t) : ∀ k, k < n → ∃ m, m < M ∧ a k = nI m ∧ t k = nI m := by
  obtain ⟨b, h1, -⟩ := h
  intro k hk
  exact ⟨b k, h1 k hk⟩
theorem ticks_cc (p : Int32) : (f1_areTicks p = some 0 ∧ f14_isIn p 0 3600 = some 0) ∨ (f1_areTicks p = some 1 ∧ f14_isIn p 0 3600 = some 1 ∧ ∃ j : Nat, j ≤ 3600 ∧ p = nI j) := by
  unfold f1_areTicks
  rcases isIn_cc p (a := 0) (b := 3600) (A := 0) (B := 3600) rfl rfl (by decide) (by decide) with ⟨e, e', -⟩ | ⟨e, e', j, -, hj, rfl⟩
  · rw [e, e', bind_is, gd_t (by decide)]
    exact Or.inl ⟨rfl, rfl⟩
  · rw [e, e', bind_is, gd_t (by decide)]
    exact Or.inr ⟨rfl, rfl, j, hj, rfl⟩
theorem running_eq {M C R P n : Nat} {g fuel burns : Nat → Int32} {men : Nat → Option Nat} {IM : Nat → Nat → Int32} {w t1 t14 : Nat → Int32} {b : Nat → Nat} {bg : Int32} (hT : TP b t1 t14) (hn : n ≤ 740) (hbg : bg = 0 ∨ bg = 1) (hY : YV M C R P g fuel burns men IM (layF bg w)) (p : Int32) (y : Nat)
    (sz am m0 w0 k0 c0 d0 : Int32) (o0 : Option Nat) (a0 does left lis asked : Nat → Int32) (th q1 q2 q3 q4 q5 q6 q7 q8 q9 q10 : Int32) (team rest load done queue waits most comes state : Nat → Int32) :
    Ok (f1_running p y (nI n) sz am (g 303) (g 306) (g 307) (g 308) (g 309) (g 310) m0 w0 k0 c0 d0 o0 t1 a0 does left lis asked men (IM 1202)) (fun x => Ok (f14_running p th (nI n) bg q1 q2 q3 q4 q5 q6 q7 q8 q9 q10 t14 w team rest load done queue waits most comes state) (fun y => x.1 = y.1 ∧ x.2.1 = nI 0 ∧ Left bg w y.2.1 y.2.2.1 y.2.2.2.1 y.2.2.2.2.2.2.2.2.2.2.2.2.2.2.1)) := by
  have hY0 := hY
  obtain ⟨⟨hM, -⟩, ⟨g303, w0', -⟩, -⟩ := hY0
  obtain ⟨H, D, s, bk, W0, hTY, hW0, g310, w5⟩ := hY.ty
  unfold f1_running f14_running f1_taken f1_running_j41
  rw [bind_is]
  obtain ⟨x1, x2, x3, y4, y6, ex, ey, h⟩ := ask_use (lo := 1) (hi := 12) (am := am) (tm := q1) (asked := asked) (team := team) hT hn hM hbg w0' (by decide) (by decide) g303
  refine ok_e ex (ok_sw (ok_e ey (ok_sw ?_)))
  dsimp only
  rcases h with rfl | ⟨rfl, rfl, rfl, h1, h2, hA⟩
  · rw [if_pos rfl, if_pos rfl]
    exact ok_i (ok_i ⟨rfl, rfl, rfl, rfl, rfl, rfl⟩)
  · rw [if_neg (by decide), if_neg (by decide)]
    rcases ticks_cc p with ⟨e, e'⟩ | ⟨e, e', j, hj, rfl⟩
    · rw [e, e', bind_is, bind_is, if_pos rfl, if_pos rfl]
      exact ok_i (ok_i ⟨rfl, rfl, rfl, rfl, rfl, rfl⟩)
    · rw [e, e', bind_is, bind_is, if_neg (by decide), if_neg (by decide), gd_t (show inb (5 : Int32) 800 by decide), lt_is, show (5 : Int32).toNatClampNeg = 5 from rfl, w5]
      refine ok_b2 (throwsIn_run hY hTY hW0 h2 hA.hT hj g310 ..) ?_
      rintro x y ⟨T, D', -, -, r1, r2, -⟩
      exact ok_i (ok_i ⟨r1.trans r2.symm, rfl, rfl, rfl, rfl, rfl⟩)
/-- the longest time, both sides -/
theorem per_eq {M C R P N : Nat} {g fuel burns : Nat → Int32} {men : Nat → Option Nat} {IM : Nat → Nat → Int32} {w : Nat → Int32} (hY : YV M C R P g fuel burns men IM w) (hN : 2 ≤ N) (hN2 : N ≤ 12) {a team : Nat → Int32} (hT : ∀ k, k < N → ∃ m, m < M ∧ a k = nI m ∧ team k = nI m) : Ok (f10_period (g 306) (g 309) (g 313) (nI N) a men (IM 1201)) (fun x => Ok (f14_periodOf (nI N) w team) (fun y => ∃ t : Nat, t ≤ 140 ∧ x = nI t ∧ y = nI t)) := by
  unfold f10_period f14_periodOf
  refine ok_b2 (S := fun x y => ∃ t : Nat, t ≤ 140 ∧ x = nI t ∧ y = nI t) ?_ (fun x y h => ok_i (ok_i h))
  refine for2_ok (fun i (x : Int32) => (x, nI i)) (fun i (x : Int32) => (x, nI i)) (fun i x y => ∃ t : Nat, t ≤ 140 ∧ x = nI t ∧ y = nI t) N (by omega) ⟨0, by decide, rfl, rfl⟩ ?_ ?_
  · rintro i x y hi ⟨t, ht, rfl, rfl⟩
    obtain ⟨m, hm, ha, hte⟩ := hT i hi
    obtain ⟨t2, h1, h2, e1, e14⟩ := time_eq hY hN hN2 hi hm ha
    have hi12 : inb (nI i) 12 := inb_nI (by omega) (by decide)
    have hic : (nI i).toNatClampNeg = i := nI_clamp (by omega)
    dsimp only
    unfold f10_period_s1 f14_periodOf_s1 f14_periodOf_j38
    rw [if_neg (nI_ge hi (by omega)), if_neg (nI_ge hi (by omega)), e1, bind_is]
    simp only [gd_t hi12, lt_is, hic, hte, e14, bind_is, nI_1]
    by_cases q : t < t2
    · rw [if_pos (nI_lt q (by omega)), if_neg (nI_ge q (by omega))]
      exact ok_i (ok_i ⟨_, _, rfl, rfl, t2, h2, rfl, rfl⟩)
    · rw [if_neg (nI_nlt (show t2 ≤ t by omega) (by omega)), if_pos (nI_le (show t2 ≤ t by omega) (by omega))]
      exact ok_i (ok_i ⟨_, _, rfl, rfl, t, ht, rfl, rfl⟩)
  · rintro x y h
    dsimp only
    unfold f10_period_s1 f14_periodOf_s1
    rw [if_pos (nI_le (Nat.le_refl _) (by omega)), if_pos (nI_le (Nat.le_refl _) (by omega))]
    exact ok_i (ok_i ⟨_, _, rfl, rfl, h⟩)
theorem period_eq {M C R P n : Nat} {g fuel burns : Nat → Int32} {men : Nat → Option Nat} {IM : Nat → Nat → Int32} {w t1 t14 : Nat → Int32} {b : Nat → Nat} {bg : Int32} (hT : TP b t1 t14) (hn : n ≤ 740) (hbg : bg = 0 ∨ bg = 1) (hY : YV M C R P g fuel burns men IM (layF bg w)) (y : Nat)
    (sz am m0 w0 t0 k0 e0 f0 b0 d0 s0 : Int32) (o0 : Option Nat) (a0 dn bs li st fi hp asked : Nat → Int32) (th q1 : Int32) (team : Nat → Int32) :
    Ok (f1_period y (nI n) sz am (g 303) (g 306) (g 307) (g 309) (g 313) m0 w0 t0 k0 e0 f0 b0 d0 s0 o0 t1 a0 dn bs li st fi hp asked men (IM 1201)) (fun x => Ok (f14_period th (nI n) bg q1 t14 w team) (fun y => x.1 = y.1 ∧ x.2.1 = nI 0 ∧ Left bg w y.2.1 y.2.2.1 y.2.2.2.1 y.2.2.2.2.2.1)) := by
  have hY0 := hY
  obtain ⟨⟨hM, -, -, -, -, hP⟩, ⟨g303, w0', -, -, -, -, g307, -⟩, -⟩ := hY0
  unfold f1_period f14_period f1_taken
  rw [bind_is]
  obtain ⟨x1, x2, x3, y4, y6, ex, ey, h⟩ := ask_use (lo := 2) (hi := 12) (am := am) (tm := q1) (asked := asked) (team := team) hT hn hM hbg w0' (by decide) (by decide) g303
  refine ok_e ex (ok_sw (ok_e ey (ok_sw ?_)))
  dsimp only
  rcases h with rfl | ⟨rfl, rfl, rfl, h1, h2, hA⟩
  · rw [if_pos rfl, if_pos rfl]
    exact ok_i (ok_i ⟨rfl, rfl, rfl, rfl, rfl, rfl⟩)
  · rw [if_neg (by decide), if_neg (by decide), g307]
    obtain ⟨x, ex', men', dn', bs', li', st', fi', hp', rfl, hm, hz⟩ := rowBegin_ok (P := P) (wat := 0) (x2 := x3) h2 m0 w0 t0 k0 e0 f0 b0 d0 s0 a0 dn bs li st fi hp
    rw [ex', bind_is]
    refine ok_b2 (per_eq hY h1 h2 (a := men') (team := y6) (fun k hk => ?_)) ?_
    · obtain ⟨m, c1, c2, c3⟩ := hA.hT k hk
      exact ⟨m, c1, (hm k hk).trans c2, c3⟩
    · rintro x y ⟨t, -, rfl, rfl⟩
      exact ok_i (ok_i ⟨rfl, rfl, rfl, rfl, rfl, rfl⟩)
/-! relief -/
theorem pow_n {M C R P : Nat} {g fuel burns : Nat → Int32} {men : Nat → Option Nat} {IM : Nat → Nat → Int32} {w : Nat → Int32} (hY : YV M C R P g fuel burns men IM w) {m : Nat} (hm : m < M) : ∃ (p a : Nat), 1 ≤ p ∧ p ≤ 99 ∧ men m = some a ∧ IM 1203 a = nI p ∧ f14_manOf (nI m) 2 w = some (nI p) := by
  obtain ⟨⟨hM, -⟩, -, -, -, hmen, -⟩ := hY
  obtain ⟨a, h, pc, pw, ha, -, -, ⟨h1, h2⟩, -, -, -, -, ep, wp⟩ := hmen m hm
  refine ⟨pw, a, h1, h2, ha, ep, ?_⟩
  rw [show (2 : Int32) = nI 2 from rfl, manOf_is (by omega) (by decide), ← wp]
/-- powers so far, alike and at most what each has -/
def PowR (n : Nat) (pw : Nat → Nat) (x y : Nat → Int32) : Prop := ∀ k, k < n → ∃ q : Nat, q ≤ pw k ∧ x k = nI q ∧ y k = nI q
theorem relieves_eq {M C R P N f : Nat} {g fuel burns : Nat → Int32} {men : Nat → Option Nat} {IM : Nat → Nat → Int32} {w : Nat → Int32} (hY : YV M C R P g fuel burns men IM w) (hN2 : N ≤ 12) {a team : Nat → Int32} (hT : ∀ k, k < N → ∃ m, m < M ∧ a k = nI m ∧ team k = nI m) (hf : 1 ≤ f) (hf2 : f ≤ N) (po1 po14 : Nat → Int32) : Ok (f1_relieves (nI f) a po1 men (IM 1203)) (fun x => Ok (f14_canThrow (nI f) w team po14) (fun y => x.1 = y.1)) := by
  have hM : M ≤ 12 := hY.1.1
  have hp : ∀ k, ∃ m p ad : Nat, k < N → m < M ∧ 1 ≤ p ∧ p ≤ 99 ∧ a k = nI m ∧ team k = nI m ∧ men m = some ad ∧ IM 1203 ad = nI p ∧ f14_manOf (nI m) 2 w = some (nI p) := by
    intro k
    by_cases hk : k < N
    · obtain ⟨m, hm, c1, c2⟩ := hT k hk
      obtain ⟨p, ad, d1, d2, d3, d4, d5⟩ := pow_n hY hm
      exact ⟨m, p, ad, fun _ => ⟨hm, d1, d2, c1, c2, d3, d4, d5⟩⟩
    · exact ⟨0, 0, 0, fun h => absurd h hk⟩
  obtain ⟨ms, hp⟩ := Classical.axiomOfChoice hp
  obtain ⟨pw, hp⟩ := Classical.axiomOfChoice hp
  obtain ⟨ads, hp⟩ := Classical.axiomOfChoice hp
  unfold f1_relieves f14_canThrow
  refine ok_b2 (S := fun x y => PowR f pw x y) ?_ ?_
  · refine for2_ok (fun i (x : Nat → Int32) => (nI i, x)) (fun i (x : Nat → Int32) => (nI i, x)) (fun i x y => PowR i pw x y) f (by omega) (fun k h => absurd h (Nat.not_lt_zero _)) ?_ ?_
    · intro i x y hi hxy
      obtain ⟨c0, c1, c2, c3, c4, c5, c6, c7⟩ := hp i (by omega)
      have hi12 : inb (nI i) 12 := inb_nI (by omega) (by decide)
      have hic : (nI i).toNatClampNeg = i := nI_clamp (by omega)
      have hm12 : inb (nI (ms i)) 12 := inb_nI (by omega) (by decide)
      have hmc : (nI (ms i)).toNatClampNeg = ms i := nI_clamp (by omega)
      dsimp only
      unfold f1_relieves_s1 f14_canThrow_s1
      rw [if_neg (nI_ge hi (by omega)), if_neg (nI_ge hi (by omega))]
      simp only [gd_t hi12, lt_is, hic, c3, c4, gd_t hm12, hmc, c5, bind_is, c6, c7, nI_1, Option.bind_some]
      refine ok_i (ok_i ⟨_, _, rfl, rfl, fun k hk => ?_⟩)
      by_cases e : k = i
      · subst e
        rw [pk_us, pk_us]
        exact ⟨pw k, Nat.le_refl _, rfl, rfl⟩
      · rw [pk_un e, pk_un e]
        exact hxy k (by omega)
    · intro x y hxy
      dsimp only
      unfold f1_relieves_s1 f14_canThrow_s1
      rw [if_pos (nI_le (Nat.le_refl _) (by omega)), if_pos (nI_le (Nat.le_refl _) (by omega))]
      exact ok_i (ok_i ⟨_, _, rfl, rfl, hxy⟩)
  · intro x y hxy
    unfold f1_relieves_e1_0 f14_canThrow_e1_0
    refine ok_b2 (S := fun (x y : Int32 × (Nat → Int32)) => x.1 = y.1) ?_ (fun x y h => ok_i (ok_i h))
    refine ok_lp2 (fun k (s t : Int32 × (Nat → Int32)) => ∃ i x y, i + k = 60 ∧ s = (nI i, x) ∧ t = (nI i, y) ∧ PowR f pw x y) (k := 60) (by decide) ⟨0, x, y, rfl, rfl, rfl, hxy⟩ ?_
    rintro k s t ⟨i, x, y, hik, rfl, rfl, hxy⟩
    dsimp only
    unfold f1_relieves_s2 f14_canThrow_s2
    by_cases h60 : 60 ≤ i
    · have c60 : (60 : Int32) ≤ nI i := nI_le (a := 60) h60 (by omega)
      rw [if_pos c60, if_pos c60]
      exact ok_i (ok_i rfl)
    · have c60 : ¬ (60 : Int32) ≤ nI i := nI_ge (b := 60) (by omega) (by decide)
      have hrem : nI i - nI i / nI f * nI f = nI (i % f) := pk_rem (by omega) (by omega) (by omega)
      have hlt : i % f < f := Nat.mod_lt _ (by omega)
      have h12 : inb (nI (i % f)) 12 := inb_nI (by omega) (by decide)
      have hc : (nI (i % f)).toNatClampNeg = i % f := nI_clamp (by omega)
      have hf0 : ¬ nI f = 0 := nI_ne0 (by omega) (by omega)
      obtain ⟨q, hq, e1, e14⟩ := hxy (i % f) hlt
      obtain ⟨-, -, hp99, -⟩ := hp (i % f) (by omega)
      rw [if_neg c60, if_neg c60]
      simp only [gd_t hf0, lt_is, hrem, gd_t h12, hc, e1, e14]
      generalize hgi : i % f = gi at *
      by_cases q3 : 3 ≤ q
      · have c3 : (3 : Int32) ≤ nI q := nI_le (a := 3) q3 (by omega)
        have e3 : nI q - (3 : Int32) = nI (q - 3) := by rw [show (3 : Int32) = nI 3 from rfl, pk_sub q3]
        rw [if_pos c3, if_pos c3, e3]
        refine ok_b2 (S := fun x y => PowR f pw x y) ?_ ?_
        · refine for2_ok (fun j (x : Nat → Int32) => (nI j, x)) (fun j (x : Nat → Int32) => (nI j, x)) (fun j x' y' => ∀ k, k < f → ∃ q : Nat, q ≤ pw k ∧ y' k = nI q ∧ ((k < j ∨ k ≠ gi) → x' k = nI q) ∧ ((j ≤ k ∧ k = gi) → x' k = nI (q + 3))) f (by omega) (fun k hk => ?_) ?_ ?_
          · by_cases e : k = gi
            · subst e
              rw [pk_us]
              exact ⟨q - 3, by omega, rfl, fun h => by omega, fun _ => by rw [e1, show q - 3 + 3 = q by omega]⟩
            · obtain ⟨q', a1, a2, a3⟩ := hxy k hk
              rw [pk_un e]
              exact ⟨q', a1, a3, fun _ => a2, fun h => absurd h.2 e⟩
          · intro j x' y' hj hI
            have hj12 : inb (nI j) 12 := inb_nI (by omega) (by decide)
            have hjc : (nI j).toNatClampNeg = j := nI_clamp (by omega)
            obtain ⟨c0, c1, c2, c3', c4, c5, c6, c7⟩ := hp j (by omega)
            have hm12 : inb (nI (ms j)) 12 := inb_nI (by omega) (by decide)
            have hmc : (nI (ms j)).toNatClampNeg = ms j := nI_clamp (by omega)
            obtain ⟨q', a1, a2, a3, a4⟩ := hI j hj
            dsimp only
            unfold f1_relieves_s9 f14_canThrow_s14 f1_relieves_j122 f14_canThrow_j112
            rw [if_neg (nI_ge hj (by omega)), if_neg (nI_ge hj (by omega))]
            simp only [gd_t hf0, lt_is, hrem, nI_1]
            by_cases e : j = gi
            · subst e
              rw [if_pos rfl, if_pos rfl]
              simp only [gd_t hj12, hjc, a4 ⟨Nat.le_refl _, rfl⟩]
              refine ok_i (ok_i ⟨_, _, rfl, rfl, fun k hk => ?_⟩)
              by_cases e2 : k = j
              · subst e2
                rw [pk_us]
                refine ⟨q', a1, a2, fun _ => ?_, fun h => by omega⟩
                rw [show (3 : Int32) = nI 3 from rfl, pk_sub (by omega), show q' + 3 - 3 = q' by omega]
              · rw [pk_un e2]
                obtain ⟨q2, b1, b2, b3, b4⟩ := hI k hk
                exact ⟨q2, b1, b2, fun _ => b3 (Or.inr e2), fun h => absurd h.2 e2⟩
            · have hne : ¬ nI j = nI gi := fun h => e ((nI_eq (by omega) (by omega)).mp h)
              rw [if_neg hne, if_neg hne]
              simp only [gd_t hj12, hjc, a3 (Or.inr e), c3', c4, gd_t hm12, hmc, c5, bind_is, Option.bind_some, c6, c7, a2, nI_1]
              by_cases e3 : q' < pw j
              · rw [if_neg (nI_nlt (show q' + 1 ≤ pw j by omega) (by omega)), if_neg (nI_ge e3 (by omega))]
                refine ok_i (ok_i ⟨_, _, rfl, rfl, fun k hk => ?_⟩)
                by_cases e2 : k = j
                · subst e2
                  rw [pk_us, pk_us]
                  exact ⟨q' + 1, by omega, rfl, fun _ => rfl, fun h => absurd h.2 e⟩
                · rw [pk_un e2, pk_un e2]
                  obtain ⟨q2, b1, b2, b3, b4⟩ := hI k hk
                  exact ⟨q2, b1, b2, fun h => b3 (by omega), fun h => b4 ⟨by omega, h.2⟩⟩
              · have e4 : q' = pw j := by omega
                rw [if_pos (nI_lt (show pw j < q' + 1 by omega) (by omega)), if_pos (nI_le (show pw j ≤ q' by omega) (by omega))]
                refine ok_i (ok_i ⟨_, _, rfl, rfl, fun k hk => ?_⟩)
                by_cases e2 : k = j
                · subst e2
                  rw [pk_us]
                  exact ⟨q', a1, a2, fun _ => by rw [e4], fun h => absurd h.2 e⟩
                · rw [pk_un e2]
                  obtain ⟨q2, b1, b2, b3, b4⟩ := hI k hk
                  exact ⟨q2, b1, b2, fun h => b3 (by omega), fun h => b4 ⟨by omega, h.2⟩⟩
          · intro x' y' hI
            dsimp only
            unfold f1_relieves_s9 f14_canThrow_s14
            rw [if_pos (nI_le (Nat.le_refl _) (by omega)), if_pos (nI_le (Nat.le_refl _) (by omega))]
            refine ok_i (ok_i ⟨_, _, rfl, rfl, fun k hk => ?_⟩)
            obtain ⟨q2, b1, b2, b3, b4⟩ := hI k hk
            exact ⟨q2, b1, b3 (Or.inl hk), b2⟩
        · intro x' y' h
          unfold f1_relieves_e9_0 f14_canThrow_e14_0
          rw [lt_is, lt_is, nI_1]
          exact ok_i (ok_i ⟨k - 1, by omega, i + 1, x', y', by omega, rfl, rfl, h⟩)
      · have c3 : ¬ (3 : Int32) ≤ nI q := nI_ge (b := 3) (by omega) (by decide)
        rw [if_neg c3, if_neg c3]
        exact ok_i (ok_i rfl)
theorem relief_eq {M C R P n : Nat} {g fuel burns : Nat → Int32} {men : Nat → Option Nat} {IM : Nat → Nat → Int32} {w t1 t14 : Nat → Int32} {b : Nat → Nat} {bg : Int32} (hT : TP b t1 t14) (hn : n ≤ 740) (hbg : bg = 0 ∨ bg = 1) (hY : YV M C R P g fuel burns men IM (layF bg w))
    (sz am : Int32) (asked po1 : Nat → Int32) (th q1 : Int32) (team po14 : Nat → Int32) :
    Ok (f1_relief (nI n) sz am (g 303) t1 asked po1 men (IM 1203)) (fun x => Ok (f14_relief th (nI n) bg q1 t14 w team po14) (fun y => x.1 = y.1 ∧ x.2.1 = nI 0 ∧ Left bg w y.2.1 y.2.2.1 y.2.2.2.1 y.2.2.2.2.2.1)) := by
  have hY0 := hY
  obtain ⟨⟨hM, -⟩, ⟨g303, w0', -⟩, -⟩ := hY0
  unfold f1_relief f14_relief f1_taken
  rw [bind_is]
  obtain ⟨x1, x2, x3, y4, y6, ex, ey, h⟩ := ask_use (lo := 1) (hi := 12) (am := am) (tm := q1) (asked := asked) (team := team) hT hn hM hbg w0' (by decide) (by decide) g303
  refine ok_e ex (ok_sw (ok_e ey (ok_sw ?_)))
  dsimp only
  rcases h with rfl | ⟨rfl, rfl, rfl, h1, h2, hA⟩
  · rw [if_pos rfl, if_pos rfl]
    exact ok_i (ok_i ⟨rfl, rfl, rfl, rfl, rfl, rfl⟩)
  · rw [if_neg (by decide), if_neg (by decide)]
    refine ok_b2 (S := fun (x : (Int32 × (Nat → Int32)) ⊕ Int32 × Int32 × Int32 × Int32 × (Nat → Int32) × (Nat → Int32)) (y : (Int32 × (Nat → Int32)) ⊕ Int32 × Int32 × Int32 × Int32 × Int32 × (Nat → Int32) × (Nat → Int32) × (Nat → Int32)) => match x, y with | .inl x, .inl y => x.1 = y.1 | .inr x, .inr y => x.1 = y.1 ∧ x.2.1 = nI 0 ∧ Left bg w y.2.1 y.2.2.1 y.2.2.2.1 y.2.2.2.2.2.1 | _, _ => False) ?_ ?_
    · refine ok_lp2 (fun k (s t : Int32 × (Nat → Int32)) => ∃ f x y, f + k = n + 1 ∧ 1 ≤ f ∧ s = (nI f, x) ∧ t = (nI f, y)) (k := n) (by omega) ⟨1, po1, po14, by omega, Nat.le_refl _, rfl, rfl⟩ ?_
      rintro k s t ⟨f, x, y, hfk, hf, rfl, rfl⟩
      dsimp only
      unfold f1_relief_s4 f14_relief_s3
      dsimp only
      by_cases hfn : n < f
      · rw [if_pos (nI_lt hfn (by omega)), if_pos (nI_lt hfn (by omega))]
        exact ok_i (ok_i ⟨rfl, rfl, rfl, rfl, rfl, rfl⟩)
      · rw [if_neg (nI_nlt (show f ≤ n by omega) (by omega)), if_neg (nI_nlt (show f ≤ n by omega) (by omega))]
        refine ok_b2 (relieves_eq hY h2 hA.hT hf (by omega) x y) ?_
        rintro ⟨x1, x2'⟩ ⟨y1, y2'⟩ hxy
        dsimp only at hxy
        subst hxy
        dsimp only
        by_cases q : x1 = 0
        · rw [if_pos q, if_pos q, lt_is, lt_is, nI_1]
          exact ok_i (ok_i ⟨k - 1, by omega, f + 1, x2', y2', by omega, by omega, rfl, rfl⟩)
        · rw [if_neg q, if_neg q]
          exact ok_i (ok_i rfl)
    · intro x y hxy
      cases x with
      | inl x =>
        cases y with
        | inl y => exact ok_i (ok_i ⟨hxy, rfl, rfl, rfl, rfl, rfl⟩)
        | inr y => exact hxy.elim
      | inr x =>
        cases y with
        | inl y => exact hxy.elim
        | inr y => exact ok_i (ok_i hxy)
