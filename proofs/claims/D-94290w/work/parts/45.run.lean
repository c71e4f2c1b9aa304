/-! the plain law: those who run, tick by tick -/
set_option maxRecDepth 100000
theorem isDrawn_is {N : Nat} (hN : N ≤ 12) (st : Nat → Int32) : (f14_isDrawn (nI N) st = some 1 ∧ ∃ k, k < N ∧ st k = 1) ∨ (f14_isDrawn (nI N) st = some 0 ∧ ∀ k, k < N → ¬ st k = 1) := by
  have h : Ok (f14_isDrawn (nI N) st) (fun x => (x = 1 ∧ ∃ k, k < N ∧ st k = 1) ∨ (x = 0 ∧ ∀ k, k < N → ¬ st k = 1)) := by
    unfold f14_isDrawn
    refine ok_b (Q := fun x => (x = 1 ∧ ∃ k, k < N ∧ st k = 1) ∨ (x = 0 ∧ ∀ k, k < N → ¬ st k = 1)) ?_ (fun x hx => ok_i hx)
    refine ok_fu (fun m s => ∃ i : Nat, i + m = N ∧ s = nI i ∧ ∀ k, k < i → ¬ st k = 1) (k := N) (by omega) ⟨0, by omega, rfl, fun k hk => absurd hk (Nat.not_lt_zero _)⟩ ?_
    rintro m s ⟨i, hi, rfl, hne⟩
    unfold f14_isDrawn_s1
    by_cases hiN : N ≤ i
    · rw [if_pos (nI_le hiN (by omega))]
      exact ok_i (Or.inr ⟨rfl, fun k hk => hne k (by omega)⟩)
    · rw [if_neg (fun q => hiN ((nI_leI (by omega) (by omega)).mp q))]
      refine ok_gd (inb_nI (by omega) (by decide)) (ok_lt ?_)
      rw [nI_clamp (by omega)]
      refine ok_if (fun h => ok_i (Or.inl ⟨rfl, i, by omega, h⟩)) (fun h => ok_lt (ok_i ⟨m - 1, by omega, i + 1, by omega, nI_1 i, fun k hk => ?_⟩))
      by_cases q : k = i
      · subst q; exact h
      · exact hne k (by omega)
  obtain ⟨x, e, h⟩ := h
  rcases h with ⟨rfl, h⟩ | ⟨rfl, h⟩
  · exact Or.inl ⟨e, h⟩
  · exact Or.inr ⟨e, h⟩
def PlN (d l i st r lo : Int32) (L : Nat) : Prop := d = st ∧ (∃ s : Nat, s ≤ 3 ∧ st = nI s) ∧ (st = 0 → r = 0) ∧ (¬ st = 0 → l = r ∧ i = nI L ∧ lo = nI L ∧ ∃ q : Nat, 1 ≤ q ∧ q ≤ 100 ∧ r = nI q)
/-- litres on their way to the fire -/
def cz (st : Int32) (L : Nat) : Nat := if st = 1 ∨ st = 2 then L else 0
def RunR (N W0 T0 : Nat) (wat thr drw : Int32) (does left lis : Nat → Int32) (well lit drn : Int32) (rest load state : Nat → Int32) : Prop :=
  ∃ (W T : Nat) (L : Nat → Nat), (W ≤ W0 ∧ W0 ≤ 9999 ∧ wat = nI W ∧ well = nI W ∧ drn = nI (W0 - W) ∧ thr = nI T ∧ lit = nI T) ∧
    (∀ k, k < N → PlN (does k) (left k) (lis k) (state k) (rest k) (load k) (L k)) ∧
    ((drw = 0 ∧ ∀ k, k < N → ¬ state k = 1) ∨ (drw = 1 ∧ ∃ k, k < N ∧ state k = 1 ∧ ∀ j, j < N → state j = 1 → j = k)) ∧
    W + T + sm (fun k => cz (state k) (L k)) N ≤ W0 ∧ T0 ≤ T
/-- the pace of one who runs -/
theorem pace_eq {M C R P : Nat} {g fuel burns : Nat → Int32} {men : Nat → Option Nat} {IM : Nat → Nat → Int32} {w : Nat → Int32} (hY : YV M C R P g fuel burns men IM w) {k m : Nat} (hk : k < 12) (hm : m < M) {a1 a14 : Nat → Int32} (e1 : a1 k = nI m) (e14 : a14 k = nI m) : ∃ (t p a : Nat), 1 ≤ t ∧ t ≤ 99 ∧ f9_manN (nI k) a1 men = some (some a) ∧ IM 1202 a = nI p ∧ f1_up (g 306) (nI p) = some (nI t) ∧ f14_manOf (nI m) 1 w = some (nI p) ∧ f14_up (w 1) (nI p) = some (nI t) := by
  obtain ⟨⟨hM, -⟩, -, ⟨⟨q6, a6, b6, g6, w6⟩, -⟩, -, hmen, -⟩ := hY
  obtain ⟨a, h, pc, pw, ha, -, ⟨h1, h2⟩, -, -, -, eh, wh, -⟩ := hmen m hm
  refine ⟨(q6 + pc - 1) / pc, pc, a, Nat.div_pos (by omega) (by omega), ?_, ?_, eh, ?_, ?_, ?_⟩
  · apply Nat.div_le_of_le_mul
    have : 98 ≤ pc * 98 := Nat.le_mul_of_pos_left 98 (by omega)
    have h3 : pc * 99 = pc + pc * 98 := by omega
    omega
  · unfold f9_manN
    simp (disch := first | assumption | omega | exact inb_nI (by omega) (by omega) | decide) only [lt_is, bind_is, ok_some, gd_t, nI_clamp, nI_add, pk_mul, pk_sub, nI_leI, nI_ltI, nI_eq, if_true, if_false, z_0, z_1, z_2, z_3, z_4, z_5, z_6, z_7, z_8, z_9, z_10, z_11, z_12, z_16, z_20, z_21, z_30, z_59, z_60, z_64, z_100, z_130, z_177, z_192, z_200, z_999, z_3600, e1, ha]
  · rw [g6, up1 (by omega) (by omega)]
  · rw [show (1 : Int32) = nI 1 from rfl, manOf_is (by omega) (by decide), ← wh]
  · rw [w6, up14 (by omega) (by omega)]
/-- the second half of one's tick: he may begin to draw -/
theorem run_part2 {N W0 T0 k H D : Nat} {wat thr drw : Int32} {does left lis : Nat → Int32} {well lit drn : Int32} {rest load state w : Nat → Int32} (hN : N ≤ 12) (hk : k < N) (hH : 1 ≤ H ∧ H ≤ 20) (hD : 1 ≤ D ∧ D ≤ 30) (w3 : w 3 = nI H) (w4 : w 4 = nI D) (h : RunR N W0 T0 wat thr drw does left lis well lit drn rest load state) :
    Ok (f11_ticks_j43 (nI H) (nI D) (nI k) wat lis thr drw does left) (fun o => Ok (f14_runTick_j139 (nI N) w (nI k) well drn load lit rest state) (fun q => ∃ (y : Int32 × Int32 × Int32 × (Nat → Int32) × (Nat → Int32) × (Nat → Int32)) (y2 : Int32 × Int32 × Int32 × (Nat → Int32) × (Nat → Int32) × (Nat → Int32)), o = .inl (nI (k + 1), y) ∧ q = .inl (nI (k + 1), y2) ∧ RunR N W0 T0 y.1 y.2.1 y.2.2.1 y.2.2.2.1 y.2.2.2.2.1 y.2.2.2.2.2 y2.1 y2.2.1 y2.2.2.1 y2.2.2.2.1 y2.2.2.2.2.1 y2.2.2.2.2.2)) := by
  have h0 := h
  obtain ⟨W, T, L, ⟨hW, hW0, rfl, rfl, rfl, rfl, rfl⟩, hpl, hdr, hsum⟩ := h
  obtain ⟨e1, ⟨s, hs, e2⟩, e3, e4⟩ := hpl k hk
  have hk12 : inb (nI k) 12 := inb_nI (by omega) (by decide)
  have hkc : (nI k).toNatClampNeg = k := nI_clamp (by omega)
  unfold f11_ticks_j43 f14_runTick_j139 f11_ticks_j104 f14_runTick_j194
  simp only [gd_t hk12, lt_is, hkc, nI_1, e1]
  by_cases hst : state k = 0
  · rw [if_pos hst, if_pos hst]
    rcases hdr with ⟨rfl, hdr⟩ | ⟨rfl, kd, hkd, hkd1, hkd2⟩
    · rw [if_pos rfl]
      by_cases hw : W = 0
      · have hw0 : nI W = 0 := by rw [hw]; rfl
        rw [if_pos hw0, if_pos hw0]
        exact ok_i (ok_i ⟨_, _, rfl, rfl, h0⟩)
      · have hw0 : ¬ nI W = 0 := nI_ne0 (by omega) (by omega)
        rw [if_neg hw0, if_neg hw0]
        obtain ⟨-, dn1, d14⟩ := draws_eq (show W < 2 ^ 30 by omega) (show H < 2 ^ 30 by omega) w3 (nI (W0 - W))
        have hv : min W H ≤ W := Nat.min_le_left _ _
        generalize min W H = v at dn1 d14 hv
        rcases isDrawn_is hN state with ⟨-, k', hk', he'⟩ | ⟨ed, -⟩
        · exact (hdr k' hk' he').elim
        · rw [dn1, bind_is, ed, bind_is, if_pos rfl, d14, bind_is]
          simp only [gd_t (show inb (4 : Int32) 800 by decide), show (4 : Int32).toNatClampNeg = 4 from rfl, w4, nI_add]
          have hsum2 := sm_one (f := fun j => cz (upd state k 1 j) (if j = k then v else L j)) (g := fun j => cz (state j) (L j)) hk (fun j _ hj => by rw [if_neg hj, pk_un hj])
          try dsimp only at hsum2
          rw [if_pos rfl, pk_us, hst, show cz 1 v = v from rfl, show cz 0 (L k) = 0 from rfl] at hsum2
          refine ok_i (ok_i ⟨_, _, rfl, rfl, W - v, T, (fun j => if j = k then v else L j), ⟨by omega, hW0, rfl, rfl, ?_, rfl, rfl⟩, fun j hj => ?_, Or.inr ⟨rfl, k, hk, pk_us, fun j hj he => ?_⟩, ?_⟩)
          · dsimp only
            rw [show W0 - W + v = W0 - (W - v) by omega]
          · dsimp only
            by_cases e : j = k
            · subst e
              rw [pk_us, pk_us, pk_us, pk_us, pk_us, pk_us, if_pos rfl]
              exact ⟨rfl, ⟨1, by decide, rfl⟩, fun h => absurd h (by decide), fun _ => ⟨rfl, rfl, rfl, D, hD.1, by omega, rfl⟩⟩
            · rw [pk_un e, pk_un e, pk_un e, pk_un e, pk_un e, pk_un e, if_neg e]
              exact hpl j hj
          · dsimp only at he
            by_cases e : j = k
            · exact e
            · rw [pk_un e] at he
              exact (hdr j hj he).elim
          · show W - v + T + sm (fun j => cz (upd state k 1 j) (if j = k then v else L j)) N ≤ W0 ∧ T0 ≤ T
            omega
    · rw [if_neg (show ¬ (1 : Int32) = 0 by decide)]
      by_cases hw : nI W = 0
      · rw [if_pos hw]
        exact ok_i (ok_i ⟨_, _, rfl, rfl, h0⟩)
      · rw [if_neg hw]
        rcases isDrawn_is hN state with ⟨ed, -⟩ | ⟨-, hno⟩
        · rw [ed, bind_is, if_neg (show ¬ (1 : Int32) = 0 by decide)]
          exact ok_i (ok_i ⟨_, _, rfl, rfl, h0⟩)
        · exact (hno kd hkd hkd1).elim
  · rw [if_neg hst, if_neg hst]
    exact ok_i (ok_i ⟨_, _, rfl, rfl, h0⟩)
/-- the tick of all who run -/
theorem run_tick {N W0 T0 H D M C R PP : Nat} {g fuel burns : Nat → Int32} {men : Nat → Option Nat} {IM : Nat → Nat → Int32} {w : Nat → Int32} (hY : YV M C R PP g fuel burns men IM w) {a1 team : Nat → Int32} {wat thr drw : Int32} {does left lis : Nat → Int32} {well lit drn : Int32} {rest load state : Nat → Int32} (hN : N ≤ 12) (hT : ∀ k, k < N → ∃ m, m < M ∧ a1 k = nI m ∧ team k = nI m) (hH : 1 ≤ H ∧ H ≤ 20) (hD : 1 ≤ D ∧ D ≤ 30) (w3 : w 3 = nI H) (w4 : w 4 = nI D) (h : RunR N W0 T0 wat thr drw does left lis well lit drn rest load state) :
    Ok (f11_ticks (g 306) (nI H) (nI D) (nI N) wat thr drw a1 does left lis men (IM 1202)) (fun x => Ok (f14_runTick (nI N) well lit drn w team rest load state) (fun y => RunR N W0 T0 x.1 x.2.1 x.2.2.1 x.2.2.2.1 x.2.2.2.2.1 x.2.2.2.2.2 y.1 y.2.1 y.2.2.1 y.2.2.2.1 y.2.2.2.2.1 y.2.2.2.2.2)) := by
  unfold f11_ticks f14_runTick
  refine ok_b2 (S := fun (x : Int32 × Int32 × Int32 × (Nat → Int32) × (Nat → Int32) × (Nat → Int32)) (y : Int32 × Int32 × Int32 × (Nat → Int32) × (Nat → Int32) × (Nat → Int32)) => RunR N W0 T0 x.1 x.2.1 x.2.2.1 x.2.2.2.1 x.2.2.2.2.1 x.2.2.2.2.2 y.1 y.2.1 y.2.2.1 y.2.2.2.1 y.2.2.2.2.1 y.2.2.2.2.2) ?_ (fun x y hxy => ok_i (ok_i hxy))
  refine for2_ok (fun i (x : Int32 × Int32 × Int32 × (Nat → Int32) × (Nat → Int32) × (Nat → Int32)) => (nI i, x)) (fun i (x : Int32 × Int32 × Int32 × (Nat → Int32) × (Nat → Int32) × (Nat → Int32)) => (nI i, x)) (fun i x y => RunR N W0 T0 x.1 x.2.1 x.2.2.1 x.2.2.2.1 x.2.2.2.2.1 x.2.2.2.2.2 y.1 y.2.1 y.2.2.1 y.2.2.2.1 y.2.2.2.2.1 y.2.2.2.2.2) N (by omega) h ?_ ?_
  · rintro k ⟨wat, thr, drw, does, left, lis⟩ ⟨well, lit, drn, rest, load, state⟩ hk hR
    have hR0 : RunR N W0 T0 wat thr drw does left lis well lit drn rest load state := hR
    dsimp only
    obtain ⟨m, hm, ha1, hte⟩ := hT k hk
    obtain ⟨tr, pc, a, htr1, htr2, em, ep, eu, em14, eu14⟩ := pace_eq hY (show k < 12 by omega) hm ha1 hte
    have hk12 : inb (nI k) 12 := inb_nI (by omega) (by decide)
    have hkc : (nI k).toNatClampNeg = k := nI_clamp (by omega)
    unfold f11_ticks_s1 f14_runTick_s1
    rw [if_neg (nI_ge hk (by omega)), if_neg (nI_ge hk (by omega))]
    simp only [gd_t hk12, gd_t (show inb (1 : Int32) 800 by decide), lt_is, hkc, show (1 : Int32).toNatClampNeg = 1 from rfl, hte, em14, bind_is, eu14, pk_us]
    have hR1 := hR0
    obtain ⟨W, T, L, ⟨hW, hW0, rfl, rfl, rfl, rfl, rfl⟩, hpl, hdr, hsum⟩ := hR1
    obtain ⟨e1, ⟨s, hs, e2⟩, e3, e4⟩ := hpl k hk
    rw [e1]
    by_cases hst : state k = 0
    · rw [if_pos hst, e3 hst, if_pos (show (0 : Int32) ≤ 0 by decide)]
      exact run_part2 hN hk hH hD w3 w4 hR0
    · obtain ⟨e5, e6, e7, q, hq1, hq2, e8⟩ := e4 hst
      rw [if_neg hst, e5, e8, if_neg (nI_nle (show 0 < q by omega) (by omega)), show nI q - (1 : Int32) = nI (q - 1) from by rw [show (1 : Int32) = nI 1 from rfl, pk_sub hq1]]
      by_cases hq : q = 1
      · have hz : nI (q - 1) = 0 := by rw [hq]; rfl
        rw [hz, if_pos rfl, if_pos rfl]
        unfold f11_ends f11_ends_j39 f11_ends_j68
        rw [em, bind_is, bind_is, lt_is, ep, eu, bind_is]
        simp only [gd_t hk12, lt_is, hkc, e1]
        have hs3 : s = 1 ∨ s = 2 ∨ s = 3 := by
          have : ¬ s = 0 := fun e => hst (by rw [e2, e]; rfl)
          omega
        have upu : ∀ (f : Nat → Int32) (x y : Int32), upd (upd f k x) k y = upd f k y := by
          intro f x y
          funext j
          by_cases e : j = k
          · subst e; rw [pk_us, pk_us]
          · rw [pk_un e, pk_un e, pk_un e]
        have hsm : ∀ z : Int32, sm (fun j => cz (upd state k z j) (L j)) N + cz (state k) (L k) = sm (fun j => cz (state j) (L j)) N + cz z (L k) := by
          intro z
          have := sm_one (f := fun j => cz (upd state k z j) (L j)) (g := fun j => cz (state j) (L j)) hk (fun j _ hj => by rw [pk_un hj])
          try dsimp only at this
          rw [pk_us] at this
          exact this
        rcases hs3 with rfl | rfl | rfl
        · have hs1 : state k = 1 := e2
          rw [hs1, if_pos rfl, if_pos rfl, if_neg (show ¬ (1 : Int32) = 2 by decide), if_neg (show ¬ (1 : Int32) = 3 by decide), bind_is]
          simp only [upu]
          rw [show (1 : Int32) + 1 = 2 from rfl]
          refine run_part2 hN hk hH hD w3 w4 ⟨W, T, L, ⟨hW, hW0, rfl, rfl, rfl, rfl, rfl⟩, fun j hj => ?_, Or.inl ⟨rfl, fun j hj he => ?_⟩, ?_⟩
          · by_cases e : j = k
            · subst e
              rw [pk_us, pk_us, pk_us, pk_us]
              exact ⟨rfl, ⟨2, by decide, rfl⟩, fun h => absurd h (by decide), fun _ => ⟨rfl, e6, e7, tr, htr1, by omega, rfl⟩⟩
            · rw [pk_un e, pk_un e, pk_un e, pk_un e]
              exact hpl j hj
          · by_cases e : j = k
            · subst e
              rw [pk_us] at he
              exact absurd he (by decide)
            · rw [pk_un e] at he
              rcases hdr with ⟨-, hno⟩ | ⟨-, kd, -, -, huq⟩
              · exact hno j hj he
              · exact e ((huq j hj he).trans (huq k hk hs1).symm)
          · have := hsm 2
            rw [hs1, show cz 1 (L k) = L k from rfl, show cz 2 (L k) = L k from rfl] at this
            omega
        · have hs1 : state k = 2 := e2
          rw [hs1, if_neg (show ¬ (2 : Int32) = 1 by decide), if_neg (show ¬ (2 : Int32) = 1 by decide), if_pos rfl, if_pos rfl, e6, e7]
          have hLk := sm_le (f := fun j => cz (state j) (L j)) hk
          try dsimp only at hLk
          rw [hs1, show cz 2 (L k) = L k from rfl] at hLk
          rw [show (2 : Int32) = nI 2 from rfl, up1 (by decide) (by omega), bind_is]
          simp only [gd_t (show ¬ nI 2 = 0 by decide), nI_1, nI_add]
          rw [if_neg (show ¬ nI 2 = 3 by decide), bind_is, pk_div (by omega) (by decide) (by decide), nI_add]
          simp only [upu]
          rw [show L k + 2 - 1 = L k + 1 by omega, show (3 : Int32) = nI (2 + 1) from rfl]
          refine run_part2 hN hk hH hD w3 w4 ⟨W, T + (L k + 1) / 2, L, ⟨hW, hW0, rfl, rfl, rfl, rfl, rfl⟩, fun j hj => ?_, ?_, ?_⟩
          · by_cases e : j = k
            · subst e
              rw [pk_us, pk_us, pk_us, pk_us]
              exact ⟨rfl, ⟨3, by decide, rfl⟩, fun h => absurd h (by decide), fun _ => ⟨rfl, e6, e7, tr, htr1, by omega, rfl⟩⟩
            · rw [pk_un e, pk_un e, pk_un e, pk_un e]
              exact hpl j hj
          · rcases hdr with ⟨h1, hno⟩ | ⟨h1, kd, hkd, hkd1, huq⟩
            · refine Or.inl ⟨h1, fun j hj he => ?_⟩
              by_cases e : j = k
              · subst e
                rw [pk_us] at he
                exact absurd he (by decide)
              · rw [pk_un e] at he
                exact hno j hj he
            · have hkk : kd ≠ k := fun e => by
                rw [e, hs1] at hkd1
                exact absurd hkd1 (by decide)
              refine Or.inr ⟨h1, kd, hkd, by rw [pk_un hkk]; exact hkd1, fun j hj he => ?_⟩
              by_cases e : j = k
              · subst e
                rw [pk_us] at he
                exact absurd he (by decide)
              · rw [pk_un e] at he
                exact huq j hj he
          · have := hsm (nI (2 + 1))
            rw [hs1, show cz 2 (L k) = L k from rfl, show cz (nI (2 + 1)) (L k) = 0 from rfl] at this
            omega
        · have hs1 : state k = 3 := e2
          rw [hs1, if_neg (show ¬ (3 : Int32) = 1 by decide), if_neg (show ¬ (3 : Int32) = 1 by decide), if_neg (show ¬ (3 : Int32) = 2 by decide), if_neg (show ¬ (3 : Int32) = 2 by decide), if_pos rfl, bind_is]
          simp only [upu]
          refine run_part2 hN hk hH hD w3 w4 ⟨W, T, L, ⟨hW, hW0, rfl, rfl, rfl, rfl, rfl⟩, fun j hj => ?_, ?_, ?_⟩
          · by_cases e : j = k
            · subst e
              rw [pk_us, pk_us, pk_us, pk_us]
              exact ⟨rfl, ⟨0, by decide, rfl⟩, fun _ => rfl, fun h => absurd rfl h⟩
            · rw [pk_un e, pk_un e, pk_un e, pk_un e]
              exact hpl j hj
          · rcases hdr with ⟨h1, hno⟩ | ⟨h1, kd, hkd, hkd1, huq⟩
            · refine Or.inl ⟨h1, fun j hj he => ?_⟩
              by_cases e : j = k
              · subst e
                rw [pk_us] at he
                exact absurd he (by decide)
              · rw [pk_un e] at he
                exact hno j hj he
            · have hkk : kd ≠ k := fun e => by
                rw [e, hs1] at hkd1
                exact absurd hkd1 (by decide)
              refine Or.inr ⟨h1, kd, hkd, by rw [pk_un hkk]; exact hkd1, fun j hj he => ?_⟩
              by_cases e : j = k
              · subst e
                rw [pk_us] at he
                exact absurd he (by decide)
              · rw [pk_un e] at he
                exact huq j hj he
          · have := hsm 0
            rw [hs1, show cz 3 (L k) = 0 from rfl, show cz 0 (L k) = 0 from rfl] at this
            omega
      · have hz : ¬ nI (q - 1) = 0 := nI_ne0 (by omega) (by omega)
        rw [if_neg hz, if_neg hz]
        refine run_part2 hN hk hH hD w3 w4 ⟨W, T, L, ⟨hW, hW0, rfl, rfl, rfl, rfl, rfl⟩, fun j hj => ?_, hdr, hsum⟩
        by_cases e : j = k
        · subst e
          rw [pk_us, pk_us]
          exact ⟨e1, ⟨s, hs, e2⟩, fun h => absurd h hst, fun _ => ⟨rfl, e6, e7, q - 1, by omega, by omega, rfl⟩⟩
        · rw [pk_un e, pk_un e]
          exact hpl j hj
  · rintro ⟨wat, thr, drw, does, left, lis⟩ ⟨well, lit, drn, rest, load, state⟩ hR
    dsimp only
    unfold f11_ticks_s1 f14_runTick_s1
    rw [if_pos (nI_le (Nat.le_refl _) (by omega)), if_pos (nI_le (Nat.le_refl _) (by omega))]
    exact ok_i (ok_i ⟨_, _, rfl, rfl, hR⟩)
