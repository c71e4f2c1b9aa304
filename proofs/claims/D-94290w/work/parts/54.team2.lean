/-! the plain law: teams that throw from the start: a row, those who run -/
set_option maxRecDepth 100000
/-- a row at its start -/
theorem row_start {N P W0 bk : Nat} {dn bs li st fi hp bks : Nat → Int32} {pa : Nat → Nat → Int32} {rest load done queue waits most comes state : Nat → Int32} (hN : N ≤ 12) (hP : P ≤ 30) (hW0 : W0 ≤ 9999) (h1 : ∀ k, k < 12 → dn k = 0 ∧ bs k = 0 ∧ li k = 0 ∧ st k = 0 ∧ fi k = 0 ∧ hp k = 0) (h14 : ∀ k, k < 12 → rest k = 0 ∧ load k = 0 ∧ done k = 0 ∧ waits k = 0 ∧ most k = 0 ∧ state k = 0) (hN1 : 1 ≤ N) :
    RowG N P W0 bk 0 0 (nI W0, 0, 0, nI P, 0, 0, 0, 0, dn, bs, li, st, fi, hp, bks, pa) (nI W0, 0, nI P, 0, 0, 0, 0, 0, rest, load, done, queue, waits, most, comes, state) := by
  refine ⟨rfl, rfl, ⟨W0, P, 0, 0, 0, fun _ => 0, fun _ => [], [], ⟨Nat.le_refl _, hW0, rfl, rfl, rfl, rfl, by decide, rfl, rfl, rfl⟩, ⟨rfl, rfl, rfl, rfl, ?_, ?_, ?_⟩, fun k hk => ?_, ⟨fun i b h => absurd h (by simp), fun b h => absurd h (by simp), List.Pairwise.nil⟩, ?_, ?_⟩, fun k hk => ?_, (h1 0 (by decide)).2.2.2.2.2⟩
  · dsimp only
    rw [Nat.sub_self]
    rfl
  · dsimp only
    rw [Nat.sub_self]
    rfl
  · exact (h14 (N - 1) (by omega)).2.2.1.symm
  · obtain ⟨a1, a2, a3, a4, a5, a6⟩ := h1 k (by omega)
    obtain ⟨b1, b2, b3, b4, b5, b6⟩ := h14 k (by omega)
    dsimp only
    exact ⟨a1.trans b3.symm, a2.trans b1.symm, a4, b4, b2, fun _ => rfl, fun h => absurd b1 h, 0, by decide, a5, fun i x h => absurd h (by simp)⟩
  · rw [sm_0]
    · rfl
    · intro j hj
      obtain ⟨b1, -⟩ := h14 j (by omega)
      dsimp only
      rw [b1]
      rfl
  · rw [sm_0]
    · exact ⟨rfl, Nat.le_refl _⟩
    · intro j hj
      rfl
  · dsimp only
    rw [(h1 k (by omega)).2.2.2.2.2, (h14 k (by omega)).2.2.2.2.1]
theorem throwsIn_row {N P W0 H D s bk M C R n : Nat} {g fuel burns : Nat → Int32} {men : Nat → Option Nat} {IM : Nat → Nat → Int32} {w : Nat → Int32} (hY : YV M C R P g fuel burns men IM w) (hTY : TY g w H D s bk) (hW0 : W0 ≤ 9999) {asked team : Nat → Int32} (hN : 2 ≤ N) (hN2 : N ≤ 12) (hT : ∀ k, k < N → ∃ m, m < M ∧ asked k = nI m ∧ team k = nI m) (hn : n ≤ 3600)
    (m0 w0 t0 k0 e0 f0 b0 d0 s0 : Int32) (a0 dn bs li st fi hp bks : Nat → Int32) (pa : Nat → Nat → Int32) (q1 q2 q3 q4 q5 q6 q7 q8 q9 q10 : Int32) (rest load done queue waits most comes state : Nat → Int32) :
    Ok ((f10_begin (nI N) (nI W0) 12 (g 307) m0 w0 t0 k0 e0 f0 b0 d0 s0 a0 dn bs li st fi hp asked).bind fun rr6 => (f9_goesR (nI n) (g 306) (g 308) (g 309) (g 311) (g 312) (g 313) rr6.1 rr6.2.1 rr6.2.2.1 rr6.2.2.2.1 rr6.2.2.2.2.1 rr6.2.2.2.2.2.1 rr6.2.2.2.2.2.2.1 rr6.2.2.2.2.2.2.2.1 rr6.2.2.2.2.2.2.2.2.1 rr6.2.2.2.2.2.2.2.2.2.1 rr6.2.2.2.2.2.2.2.2.2.2.1 rr6.2.2.2.2.2.2.2.2.2.2.2.1 rr6.2.2.2.2.2.2.2.2.2.2.2.2.1 rr6.2.2.2.2.2.2.2.2.2.2.2.2.2.1 rr6.2.2.2.2.2.2.2.2.2.2.2.2.2.2.1 rr6.2.2.2.2.2.2.2.2.2.2.2.2.2.2.2 bks men (IM 1201) (IM 1203) pa).bind fun rr7 => some (rr6, rr7)) (fun x => Ok (f14_throwsIn 1 (nI N) (nI W0) (nI n) q1 q2 q3 q4 q5 q6 q7 q8 q9 q10 w team rest load done queue waits most comes state) (fun y => ∃ T : Nat, T ≤ 9999 ∧ x.1.1 = nI N ∧ x.2.1 = nI T ∧ y.1 = nI T ∧ y.2.1 = nI N ∧ RowG N P W0 bk 0 n x.2.2 y.2.2.2 ∧ y.1 = y.2.2.2.2.2.2.2.1)) := by
  have hY0 := hY
  obtain ⟨⟨-, -, -, -, hP1, hP2⟩, ⟨-, -, -, -, -, -, g7, w2⟩, -⟩ := hY0
  obtain ⟨x, ex, men', dn', bs', li', st', fi', hp', rfl, hm, hz⟩ := rowBegin_ok (P := P) (wat := nI W0) (x2 := asked) hN2 m0 w0 t0 k0 e0 f0 b0 d0 s0 a0 dn bs li st fi hp
  obtain ⟨y, ey, rest', load', done', waits', most', state', rfl, hz14⟩ := start_ok (how := 1) w2 hP2 hN2 (by decide) q1 q2 q4 q5 q6 q7 q8 q9 q10 rest load done waits most state
  rw [g7, ex, bind_is]
  unfold f14_throwsIn
  rw [show (1 : Int32) = nI 1 from rfl, ey, bind_is]
  dsimp only
  have hG := row_start (bks := bks) (pa := pa) (queue := queue) (comes := comes) (bk := bk) hN2 hP2 hW0 hz hz14 (by omega)
  have hT' : ∀ k, k < N → ∃ m, m < M ∧ men' k = nI m ∧ team k = nI m := by
    intro k hk
    obtain ⟨m, h1, h2, h3⟩ := hT k hk
    exact ⟨m, h1, (hm k hk).trans h2, h3⟩
  obtain ⟨r, er, z, ez, hG', hr⟩ := goes_row hY hTY hN hN2 hP2 hT' (show 0 + n ≤ 20000 by omega) (nI (if 1 = 2 then min N P else N), nI 1, 0, nI P, 0, 0, 0, 0, 0, rest', load', done', waits', most', state') rfl rfl hG
  rw [Nat.zero_add] at hG'
  dsimp only at er ez hr
  rw [er, bind_is]
  refine ok_i (ok_e ez ?_)
  unfold f14_throwsIn_e2_0
  obtain ⟨-, -, ⟨W, E, F, T, SP, L, q, B, hw, ⟨e1, e2, -⟩, -, -, -, hsum⟩, -⟩ := id hG'
  refine ok_i ⟨T, by omega, rfl, ?_, e2, rfl, hG', rfl⟩
  rw [hr, e1, z_0, pk_sub (Nat.zero_le _)]
  rfl
/-- those who run, from tick to tick -/
def RunG (N W0 T0 t : Nat) (x : Int32 × Int32 × Int32 × Int32 × (Nat → Int32) × (Nat → Int32) × (Nat → Int32)) (y : Int32 × Int32 × Int32 × Int32 × Int32 × Int32 × Int32 × Int32 × (Nat → Int32) × (Nat → Int32) × (Nat → Int32) × (Nat → Int32) × (Nat → Int32) × (Nat → Int32) × (Nat → Int32) × (Nat → Int32)) : Prop :=
  x.2.2.1 = nI t ∧ y.2.1 = nI t ∧ RunR N W0 T0 x.1 x.2.1 x.2.2.2.1 x.2.2.2.2.1 x.2.2.2.2.2.1 x.2.2.2.2.2.2 y.1 y.2.2.2.2.1 y.2.2.2.2.2.2.2.1 y.2.2.2.2.2.2.2.2.1 y.2.2.2.2.2.2.2.2.2.1 y.2.2.2.2.2.2.2.2.2.2.2.2.2.2.2
theorem goN_step {N W0 T0 H D s bk t M C R PP n i : Nat} {g fuel burns : Nat → Int32} {men : Nat → Option Nat} {IM : Nat → Nat → Int32} {w : Nat → Int32} (hY : YV M C R PP g fuel burns men IM w) (hTY : TY g w H D s bk) {a1 team : Nat → Int32} (hN2 : N ≤ 12) (hT : ∀ k, k < N → ∃ m, m < M ∧ a1 k = nI m ∧ team k = nI m) {x : Int32 × Int32 × Int32 × Int32 × (Nat → Int32) × (Nat → Int32) × (Nat → Int32)} {y : Int32 × Int32 × Int32 × Int32 × Int32 × Int32 × Int32 × Int32 × (Nat → Int32) × (Nat → Int32) × (Nat → Int32) × (Nat → Int32) × (Nat → Int32) × (Nat → Int32) × (Nat → Int32) × (Nat → Int32)} (hG : RunG N W0 T0 t x y) (hi : i < n) (hn : n ≤ 100000) :
    Ok (f9_goesN_s1 (nI n) (g 306) (g 308) (g 309) (nI N) a1 men (IM 1202) (nI i) x.1 x.2.1 x.2.2.1 x.2.2.2.1 x.2.2.2.2.1 x.2.2.2.2.2.1 x.2.2.2.2.2.2) (fun o => Ok (f14_teamTick (nI N) 2 y.1 y.2.1 y.2.2.1 y.2.2.2.1 y.2.2.2.2.1 y.2.2.2.2.2.1 y.2.2.2.2.2.2.1 y.2.2.2.2.2.2.2.1 w team y.2.2.2.2.2.2.2.2.1 y.2.2.2.2.2.2.2.2.2.1 y.2.2.2.2.2.2.2.2.2.2.1 y.2.2.2.2.2.2.2.2.2.2.2.1 y.2.2.2.2.2.2.2.2.2.2.2.2.1 y.2.2.2.2.2.2.2.2.2.2.2.2.2.1 y.2.2.2.2.2.2.2.2.2.2.2.2.2.2.1 y.2.2.2.2.2.2.2.2.2.2.2.2.2.2.2) (fun y' => ∃ x', o = .inl (nI (i + 1), x') ∧ RunG N W0 T0 (t + 1) x' y')) := by
  obtain ⟨⟨h1, h2, h3, h4⟩, ⟨d1, d2, d3, d4⟩, -⟩ := hTY
  obtain ⟨x1, x2, x3, x4, x5, x6, x7⟩ := x
  obtain ⟨y1, y2, y3, y4, y5, y6, y7, y8, y9, y10, y11, y12, y13, y14, y15, y16⟩ := y
  obtain ⟨e1, e2, hR⟩ := hG
  dsimp only at e1 e2 hR ⊢
  subst e1 e2
  unfold f9_goesN_s1 f14_teamTick f14_teamTick_j22
  rw [if_neg (nI_ge hi (by omega)), lt_is, lt_is, nI_1, if_neg (show ¬ (2 : Int32) = 1 by decide), if_pos rfl, h1, d1]
  refine ok_b2 (run_tick hY hN2 hT ⟨h3, h4⟩ ⟨d3, d4⟩ h2 d2 hR) ?_
  intro x' y' hxy
  rw [lt_is, nI_1]
  exact ok_i (ok_i ⟨_, rfl, rfl, rfl, hxy⟩)
theorem goes_run {N W0 T0 H D s bk t M C R PP n : Nat} {g fuel burns : Nat → Int32} {men : Nat → Option Nat} {IM : Nat → Nat → Int32} {w : Nat → Int32} (hY : YV M C R PP g fuel burns men IM w) (hTY : TY g w H D s bk) {a1 team : Nat → Int32} (hN2 : N ≤ 12) (hT : ∀ k, k < N → ∃ m, m < M ∧ a1 k = nI m ∧ team k = nI m) (ht : t + n ≤ 20000) (rr1 : Int32 × Int32 × Int32 × Int32 × Int32 × Int32 × Int32 × Int32 × Int32 × (Nat → Int32) × (Nat → Int32) × (Nat → Int32) × (Nat → Int32) × (Nat → Int32) × (Nat → Int32)) (hr1 : rr1.1 = nI N) (hr2 : rr1.2.1 = 2) {x : Int32 × Int32 × Int32 × Int32 × (Nat → Int32) × (Nat → Int32) × (Nat → Int32)} {y : Int32 × Int32 × Int32 × Int32 × Int32 × Int32 × Int32 × Int32 × (Nat → Int32) × (Nat → Int32) × (Nat → Int32) × (Nat → Int32) × (Nat → Int32) × (Nat → Int32) × (Nat → Int32) × (Nat → Int32)} (hG : RunG N W0 T0 t x y) :
    Ok (f9_goesN (nI n) (g 306) (g 308) (g 309) (nI N) x.1 x.2.1 x.2.2.1 x.2.2.2.1 a1 x.2.2.2.2.1 x.2.2.2.2.2.1 x.2.2.2.2.2.2 men (IM 1202)) (fun r => Ok (whl (fun (s2 : Int32 × Int32 × Int32 × Int32 × Int32 × Int32 × Int32 × Int32 × Int32 × (Nat → Int32) × (Nat → Int32) × (Nat → Int32) × (Nat → Int32) × (Nat → Int32) × (Nat → Int32) × (Nat → Int32) × (Nat → Int32)) => f14_throwsIn_s2 (nI n) w team rr1 s2.1 s2.2.1 s2.2.2.1 s2.2.2.2.1 s2.2.2.2.2.1 s2.2.2.2.2.2.1 s2.2.2.2.2.2.2.1 s2.2.2.2.2.2.2.2.1 s2.2.2.2.2.2.2.2.2.1 s2.2.2.2.2.2.2.2.2.2.1 s2.2.2.2.2.2.2.2.2.2.2.1 s2.2.2.2.2.2.2.2.2.2.2.2.1 s2.2.2.2.2.2.2.2.2.2.2.2.2.1 s2.2.2.2.2.2.2.2.2.2.2.2.2.2.1 s2.2.2.2.2.2.2.2.2.2.2.2.2.2.2.1 s2.2.2.2.2.2.2.2.2.2.2.2.2.2.2.2.1 s2.2.2.2.2.2.2.2.2.2.2.2.2.2.2.2.2) FU ((0 : Int32), y)) (fun z => RunG N W0 T0 (t + n) r.2 z ∧ r.1 = r.2.2.1 - x.2.1)) := by
  unfold f9_goesN
  refine ok_b (for2_ok (s2 := (fun (s2 : Int32 × Int32 × Int32 × Int32 × Int32 × Int32 × Int32 × Int32 × Int32 × (Nat → Int32) × (Nat → Int32) × (Nat → Int32) × (Nat → Int32) × (Nat → Int32) × (Nat → Int32) × (Nat → Int32) × (Nat → Int32)) => f14_throwsIn_s2 (nI n) w team rr1 s2.1 s2.2.1 s2.2.2.1 s2.2.2.2.1 s2.2.2.2.2.1 s2.2.2.2.2.2.1 s2.2.2.2.2.2.2.1 s2.2.2.2.2.2.2.2.1 s2.2.2.2.2.2.2.2.2.1 s2.2.2.2.2.2.2.2.2.2.1 s2.2.2.2.2.2.2.2.2.2.2.1 s2.2.2.2.2.2.2.2.2.2.2.2.1 s2.2.2.2.2.2.2.2.2.2.2.2.2.1 s2.2.2.2.2.2.2.2.2.2.2.2.2.2.1 s2.2.2.2.2.2.2.2.2.2.2.2.2.2.2.1 s2.2.2.2.2.2.2.2.2.2.2.2.2.2.2.2.1 s2.2.2.2.2.2.2.2.2.2.2.2.2.2.2.2.2)) (P := fun r z => RunG N W0 T0 (t + n) r z) (fun i (x : Int32 × Int32 × Int32 × Int32 × (Nat → Int32) × (Nat → Int32) × (Nat → Int32)) => (nI i, x)) (fun i (y : Int32 × Int32 × Int32 × Int32 × Int32 × Int32 × Int32 × Int32 × (Nat → Int32) × (Nat → Int32) × (Nat → Int32) × (Nat → Int32) × (Nat → Int32) × (Nat → Int32) × (Nat → Int32) × (Nat → Int32)) => (nI i, y)) (fun i x y => RunG N W0 T0 (t + i) x y) n (by omega) hG ?_ ?_) (fun r hr => ok_lt (ok_i (ok_w hr (fun z hz => ⟨hz, rfl⟩))))
  · intro i x y hi hxy
    refine ok_w (goN_step hY hTY hN2 hT hxy hi (by omega)) ?_
    rintro o ⟨y', ey, x', rfl, hG'⟩
    refine ok_eq (x := .inl (nI (i + 1), y')) ?_ ⟨x', y', rfl, rfl, by rw [← Nat.add_assoc]; exact hG'⟩
    dsimp only
    unfold f14_throwsIn_s2
    rw [if_neg (nI_ge hi (by omega)), hr1, hr2, ey, bind_is, lt_is, nI_1]
  · intro x y hxy
    dsimp only
    unfold f9_goesN_s1 f14_throwsIn_s2
    rw [if_pos (nI_le (Nat.le_refl _) (by omega)), if_pos (nI_le (Nat.le_refl _) (by omega))]
    exact ok_i (ok_i ⟨_, _, rfl, rfl, hxy⟩)
theorem run_start {N P W0 : Nat} {does left lis : Nat → Int32} {rest load done queue waits most comes state : Nat → Int32} (hN : N ≤ 12) (hW0 : W0 ≤ 9999) (h1 : ∀ k, k < 12 → does k = 0) (h14 : ∀ k, k < 12 → rest k = 0 ∧ load k = 0 ∧ done k = 0 ∧ waits k = 0 ∧ most k = 0 ∧ state k = 0) :
    RunG N W0 0 0 (nI W0, 0, 0, 0, does, left, lis) (nI W0, 0, nI P, 0, 0, 0, 0, 0, rest, load, done, queue, waits, most, comes, state) := by
  refine ⟨rfl, rfl, W0, 0, fun _ => 0, ⟨Nat.le_refl _, hW0, rfl, rfl, ?_, rfl, rfl⟩, fun k hk => ?_, Or.inl ⟨rfl, fun k hk h => ?_⟩, ?_⟩
  · dsimp only
    rw [Nat.sub_self]
    rfl
  · obtain ⟨b1, b2, b3, b4, b5, b6⟩ := h14 k (by omega)
    dsimp only
    exact ⟨(h1 k (by omega)).trans b6.symm, ⟨0, by decide, b6⟩, fun _ => b1, fun h => absurd b6 h⟩
  · have b6 := (h14 k (by omega)).2.2.2.2.2
    dsimp only at h
    rw [b6] at h
    exact absurd h (by decide)
  · rw [sm_0]
    · omega
    · intro j hj
      have b6 := (h14 j (by omega)).2.2.2.2.2
      dsimp only
      rw [b6]
      rfl
theorem throwsIn_run {N P W0 H D s bk M C R n : Nat} {g fuel burns : Nat → Int32} {men : Nat → Option Nat} {IM : Nat → Nat → Int32} {w : Nat → Int32} (hY : YV M C R P g fuel burns men IM w) (hTY : TY g w H D s bk) (hW0 : W0 ≤ 9999) {asked team : Nat → Int32} (hN2 : N ≤ 12) (hT : ∀ k, k < N → ∃ m, m < M ∧ asked k = nI m ∧ team k = nI m) (hn : n ≤ 3600)
    (g310 : g 310 = nI W0) (m0 w0 t0 k0 e0 : Int32) (a0 does left lis : Nat → Int32) (q1 q2 q3 q4 q5 q6 q7 q8 q9 q10 : Int32) (rest load done queue waits most comes state : Nat → Int32) :
    Ok (f1_runs (nI N) (nI n) 12 (g 306) (g 307) (g 308) (g 309) (g 310) m0 w0 t0 k0 e0 a0 does left lis asked men (IM 1202)) (fun x => Ok (f14_throwsIn 2 (nI N) (nI W0) (nI n) q1 q2 q3 q4 q5 q6 q7 q8 q9 q10 w team rest load done queue waits most comes state) (fun y => ∃ T D : Nat, T ≤ 9999 ∧ D ≤ W0 ∧ x.1 = nI T ∧ y.1 = nI T ∧ x.2.2.1 = nI (W0 - D) ∧ y.2.2.2.2.2.2.2.2.2.2.1 = nI D)) := by
  have hY0 := hY
  obtain ⟨⟨-, -, -, -, hP1, hP2⟩, ⟨-, -, -, -, -, -, g7, w2⟩, -⟩ := hY0
  obtain ⟨x, ex, men', does', rfl, hm, hz⟩ := runBegin_ok (P := P) (wat := nI W0) (x2 := asked) hN2 hP2 m0 w0 t0 k0 e0 a0 does
  obtain ⟨y, ey, rest', load', done', waits', most', state', rfl, hz14⟩ := start_ok (how := 2) w2 hP2 hN2 (by decide) q1 q2 q4 q5 q6 q7 q8 q9 q10 rest load done waits most state
  unfold f1_runs
  rw [g7, g310, ex, bind_is]
  unfold f14_throwsIn
  rw [show (2 : Int32) = nI 2 from rfl, ey, bind_is]
  dsimp only
  have hG := run_start (P := P) (N := min N P) (left := left) (lis := lis) (queue := queue) (comes := comes) (by omega) hW0 hz hz14
  have hT' : ∀ k, k < min N P → ∃ m, m < M ∧ men' k = nI m ∧ team k = nI m := by
    intro k hk
    obtain ⟨m, h1, h2, h3⟩ := hT k (by omega)
    exact ⟨m, h1, (hm k hk).trans h2, h3⟩
  obtain ⟨r, er, z, ez, hG', hr⟩ := goes_run hY hTY (show min N P ≤ 12 by omega) hT' (show 0 + n ≤ 20000 by omega) (nI (if 2 = 2 then min N P else N), nI 2, 0, nI P, 0, 0, 0, 0, 0, rest', load', done', waits', most', state') rfl rfl hG
  rw [Nat.zero_add] at hG'
  dsimp only at er ez hr
  rw [er, bind_is]
  refine ok_i (ok_e ez ?_)
  unfold f14_throwsIn_e2_0
  obtain ⟨-, -, W, T, L, ⟨hW1, hW2, e1, e2, e3, e4, e5⟩, -, -, hsum⟩ := hG'
  refine ok_i ⟨T, W0 - W, by omega, by omega, ?_, e5, ?_, e3⟩
  · rw [hr, e4, z_0, pk_sub (Nat.zero_le _)]
    rfl
  · rw [show W0 - (W0 - W) = W by omega]
    exact e1
