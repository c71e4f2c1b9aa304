/-! the plain law: the things that a plan does in a minute of the night -/
set_option maxRecDepth 100000
def ThR (z yy M C R bk m Z kk : Nat) (V : Nat → Nat → Nat) (Wt : Nat) (I0 : gI) (X0 : gX) (A0 Is As : gI) (J : gJ) (B : gJ) (Q : gX) (queue comes wet : Nat → Int32) (x : Option Nat × Int32 × Int32 × gI × gJ × gX × gI × gJ × gX) (y : Int32 × Int32 × Int32 × Int32 × Int32 × Int32 × Int32 × Int32 × Int32 × Int32 × Int32 × (Nat → Int32) × (Nat → Int32) × (Nat → Int32) × (Nat → Int32) × (Nat → Int32) × (Nat → Int32) × (Nat → Int32) × (Nat → Int32) × (Nat → Int32)) : Prop :=
  (Chg z I0 X0 A0 x.2.2.2.1 x.2.2.2.2.2.1 x.2.2.2.2.2.2.1 ∧ x.2.2.2.2.1 = J ∧ x.2.2.2.2.2.2.2.1 = B ∧ x.2.2.2.2.2.2.2.2 = Q ∧ ∀ f, x.2.2.2.1 f z = I0 f z) ∧ (x.2.1 = y.1 ∧ Aim C R y.1) ∧ (x.2.2.1 = nI kk ∧ y.2.1 = nI kk) ∧
  TeamR z yy M bk m x.1 x.2.2.2.1 x.2.2.2.2.2.1 x.2.2.2.2.2.2.1 Wt y.2.2.1 y.2.2.2.1 y.2.2.2.2.2.2.2.2.2.2.2.1 (nI Wt, y.2.2.2.2.1, y.2.2.2.2.2.1, y.2.2.2.2.2.2.1, y.2.2.2.2.2.2.2.1, y.2.2.2.2.2.2.2.2.1, y.2.2.2.2.2.2.2.2.2.1, y.2.2.2.2.2.2.2.2.2.2.1, y.2.2.2.2.2.2.2.2.2.2.2.2.1, y.2.2.2.2.2.2.2.2.2.2.2.2.2.1, y.2.2.2.2.2.2.2.2.2.2.2.2.2.2.1, queue, y.2.2.2.2.2.2.2.2.2.2.2.2.2.2.2.1, y.2.2.2.2.2.2.2.2.2.2.2.2.2.2.2.2.1, comes, y.2.2.2.2.2.2.2.2.2.2.2.2.2.2.2.2.2.1) ∧
  (∃ F BB, Gr C R Z F BB V (x.2.2.2.2.2.2.1 (z + 115)) (x.2.2.2.2.2.2.1 (z + 116)) (x.2.2.2.2.2.2.1 (z + 118)) y.2.2.2.2.2.2.2.2.2.2.2.2.2.2.2.2.2.2.1 wet y.2.2.2.2.2.2.2.2.2.2.2.2.2.2.2.2.2.2.2) ∧ (x.2.2.2.2.2.1 904 (z + 114) = some yy ∧ x.2.2.2.1 905 (z + 114) = Is 905 (z + 114) ∧ ∀ k, 119 ≤ k → k ≤ 122 → x.2.2.2.2.2.2.1 (z + k) = As (z + k))
theorem copy_team {b n : Nat} {w : Nat → Int32} {bg : Int32} (hb : b + 15 ≤ 800) (hn : n ≤ 12) (h2 : w (b + 2) = nI n) (team : Nat → Int32) : Ok (whl (fun (s60 : Int32 × (Nat → Int32)) => f14_spend_s60 (bg, w) (nI b) s60.1 s60.2) FU ((0 : Int32), team)) (fun x => ∀ i, i < n → x i = w (b + 3 + i)) := by
  refine for_ok (fun i (x : Nat → Int32) => (nI i, x)) (fun i x => ∀ k, k < i → x k = w (b + 3 + k)) n (by omega) (fun _ h => absurd h (Nat.not_lt_zero _)) ?_ ?_
  · intro i x hi hx
    dsimp only
    unfold f14_spend_s60
    have c2 : (nI (b + 2)).toNatClampNeg = b + 2 := nI_clamp (by omega)
    have c3 : (nI (b + 3 + i)).toNatClampNeg = b + 3 + i := nI_clamp (by omega)
    have ci : (nI i).toNatClampNeg = i := nI_clamp (by omega)
    simp only [show (2 : Int32) = nI 2 from rfl, show (3 : Int32) = nI 3 from rfl, nI_add, lt_is, gd_t (inb_nI (show b + 2 < 800 by omega) (by decide)), c2, h2]
    rw [if_neg (nI_ge hi (by omega))]
    simp only [gd_t (inb_nI (show b + 3 + i < 800 by omega) (by decide)), gd_t (inb_nI (show i < 12 by omega) (by decide)), c3, ci, nI_1]
    refine ok_i ⟨_, rfl, fun k hk => ?_⟩
    by_cases q : k = i
    · rw [q, pk_us]
    · rw [pk_un q]
      exact hx k (by omega)
  · intro x hx
    dsimp only
    unfold f14_spend_s60
    have c2 : (nI (b + 2)).toNatClampNeg = b + 2 := nI_clamp (by omega)
    simp only [show (2 : Int32) = nI 2 from rfl, nI_add, lt_is, gd_t (inb_nI (show b + 2 < 800 by omega) (by decide)), c2, h2]
    rw [if_pos (nI_le (Nat.le_refl _) (by omega))]
    exact ok_i ⟨_, rfl, hx⟩
theorem thing_step {z yy M C R P bk m Z kk Np Wt pl : Nat} {V : Nat → Nat → Nat} {S : Nat → Prop} {K : gK} {I0 : gI} {J : gJ} {X0 : gX} {A0 Is As : gI} {B : gJ} {Q : gX} {w queue comes wet : Nat → Int32} {x : Option Nat × Int32 × Int32 × gI × gJ × gX × gI × gJ × gX} {y : Int32 × Int32 × Int32 × Int32 × Int32 × Int32 × Int32 × Int32 × Int32 × Int32 × Int32 × (Nat → Int32) × (Nat → Int32) × (Nat → Int32) × (Nat → Int32) × (Nat → Int32) × (Nat → Int32) × (Nat → Int32) × (Nat → Int32) × (Nat → Int32)}
    (hIS : IS z K X0 Q) (hyy : YardX z S K I0 X0 A0 Q (z + 7) w yy M C R P) (hpl : X0 201 (z + 7) = some pl ∧ Fz z S pl ∧ Fz z S (pl + 1) ∧ K pl = some (.inl 4) ∧ K (pl + 1) = some (.inr (5, 20)) ∧ X0 400 pl = some (pl + 1) ∧ I0 401 pl = nI Np ∧ Np ≤ 20 ∧ w 200 = nI Np ∧ ∀ k, k < Np → ∃ t : Nat, Q (pl + 1) k = some t ∧ ThingX z S K I0 X0 A0 w M C R t k) (hm : m < 60) (hkk : kk ≤ Np) (h : ThR z yy M C R bk m Z kk V Wt I0 X0 A0 Is As J B Q queue comes wet x y) :
    Ok (w1_nights_s25 z K (nI Wt) (nI m) x.1 x.2.1 x.2.2.1 x.2.2.2.1 x.2.2.2.2.1 x.2.2.2.2.2.1 x.2.2.2.2.2.2.1 x.2.2.2.2.2.2.2.1 x.2.2.2.2.2.2.2.2) (fun o => Ok (f14_spend_s8 ((1 : Int32), w) (nI m) y.1 y.2.1 y.2.2.1 y.2.2.2.1 y.2.2.2.2.1 y.2.2.2.2.2.1 y.2.2.2.2.2.2.1 y.2.2.2.2.2.2.2.1 y.2.2.2.2.2.2.2.2.1 y.2.2.2.2.2.2.2.2.2.1 y.2.2.2.2.2.2.2.2.2.2.1 y.2.2.2.2.2.2.2.2.2.2.2.1 y.2.2.2.2.2.2.2.2.2.2.2.2.1 y.2.2.2.2.2.2.2.2.2.2.2.2.2.1 y.2.2.2.2.2.2.2.2.2.2.2.2.2.2.1 y.2.2.2.2.2.2.2.2.2.2.2.2.2.2.2.1 y.2.2.2.2.2.2.2.2.2.2.2.2.2.2.2.2.1 y.2.2.2.2.2.2.2.2.2.2.2.2.2.2.2.2.2.1 y.2.2.2.2.2.2.2.2.2.2.2.2.2.2.2.2.2.2.1 y.2.2.2.2.2.2.2.2.2.2.2.2.2.2.2.2.2.2.2) (fun q => (o = .inr x ∧ q = .inr y) ∨ (kk < Np ∧ ∃ x' y', o = .inl x' ∧ q = .inl y' ∧ ThR z yy M C R bk m Z (kk + 1) V Wt I0 X0 A0 Is As J B Q queue comes wet x' y'))) := by
  obtain ⟨tm, aim, kx, I, J', X, A, B', Q'⟩ := x
  obtain ⟨y1, y2, y3, y4, y5, y6, y7, y8, y9, y10, y11, y12, y13, y14, y15, y16, y17, y18, y19, y20⟩ := y
  obtain ⟨⟨hc, e1, e2, e3, hzI⟩, ⟨e4, haim⟩, ⟨e5, e6⟩, hT, ⟨F, BB, hg⟩, h904, h905, hrows⟩ := h
  dsimp only at hc e1 e2 e3 hzI e4 haim e5 e6 hT hg h904 h905 hrows ⊢
  subst e1 e2 e3 e4 e5 e6
  obtain ⟨hy, hz, hsh0, hm12, hY⟩ := hyy
  obtain ⟨hp, hp1, hp2, hkp, hkp2, hxp, hIN, hN, hw200, hth⟩ := hpl
  have hISx := hc.IS hIS
  have hS0 := hISx.1.1
  have hK7 := hISx.2.1.1
  have hX9 := hISx.2.1.2
  have hx := hISx.o
  obtain ⟨-, -, -, -, -, ⟨hS114, hX45⟩, ⟨hS38, hX14⟩, ⟨hS65, hX16⟩, hG2, hyards, -⟩ := hx
  have hsy := hyards yy hsh0.1
  have h201 : X 201 (z + 7) = some pl := (hc.x 201 _ (by omega)).trans hp
  have h400 : X 400 pl = some (pl + 1) := (hc.x 400 _ (by omega)).trans hxp
  have h401 : I 401 pl = nI Np := by rw [hc.rd (f := 401) (by decide)]; exact hIN
  have hl5 : alen K (pl + 1) 5 = some 20 := alen_is hkp2
  have hw2 : ∀ {α : Type} (F : Int32 → Option α), (gd (inb (200 : Int32) 800) <| lt (w (200 : Int32).toNatClampNeg) F) = F (nI Np) := fun F => by
    rw [gd_t (by decide), lt_is]
    exact congrArg F hw200
  unfold w1_nights_s25 f14_spend_s8
  dsimp only
  rw [hw2]
  simp only [lt_is]
  rw [hX9, bind_is, gdp_t hK7, h201, bind_is, gdp_t hkp, h401]
  by_cases hend : Np ≤ kk
  · rw [if_pos (nI_le hend (by omega)), if_pos (nI_le hend (by omega))]
    exact ok_i (ok_i (Or.inl ⟨rfl, rfl⟩))
  have hk : kk < Np := by omega
  obtain ⟨t, ht, ht1, ht2, ⟨mi, m1, m2, m3⟩, wh, w1, w2, w3, w4, w5⟩ := hth kk hk
  have h1300 : I 1300 t = nI mi := by rw [hc.rd (f := 1300) (by decide)]; exact m2
  have h1301 : I 1301 t = nI wh := by rw [hc.rd (f := 1301) (by decide)]; exact w2
  have hin20 : inb (nI kk) 20 := inb_nI (by omega) (by decide)
  have hckk : (nI kk).toNatClampNeg = kk := nI_clamp (by omega)
  have e16 : (210 : Int32) + (16 : Int32) * nI kk = nI (210 + 16 * kk) := by rw [show (16 : Int32) = nI 16 from rfl, pk_mul, show (210 : Int32) = nI 210 from rfl, nI_add]
  have c0 : (nI (210 + 16 * kk)).toNatClampNeg = 210 + 16 * kk := nI_clamp (by omega)
  have c1 : (nI (210 + 16 * kk + 1)).toNatClampNeg = 210 + 16 * kk + 1 := nI_clamp (by omega)
  have w3' : w (210 + 16 * kk + 1) = nI wh := by rw [show 210 + 16 * kk + 1 = 211 + 16 * kk by omega]; exact w3
  rw [if_neg (nI_ge hk (by omega)), if_neg (nI_ge hk (by omega)), h400, bind_is, hl5, bind_is, gdp_t hin20, hckk, ht, bind_is, gdp_t ht2, h1300, e16, gd_t (inb_nI (show 210 + 16 * kk < 800 by omega) (by decide)), c0, m3]
  by_cases hmi : nI mi = nI m
  rotate_left
  · rw [if_neg hmi, if_neg hmi]
    exact ok_i (ok_i (Or.inl ⟨rfl, rfl⟩))
  rw [if_pos hmi, if_pos hmi, gdp_t hin20, nI_1, gd_t (inb_nI (show 210 + 16 * kk + 1 < 800 by omega) (by decide)), c1, w3', h1301]
  have c2 : (nI (210 + 16 * kk + 2)).toNatClampNeg = 210 + 16 * kk + 2 := nI_clamp (by omega)
  have hv : ∀ {α : Type} {v : Int32} (G : Int32 → Option α), w (212 + 16 * kk) = v → (gd (inb (nI (210 + 16 * kk) + 2) 800) <| lt (w (nI (210 + 16 * kk) + (2 : Int32)).toNatClampNeg) G) = G v := fun G hv => by
    rw [show (2 : Int32) = nI 2 from rfl, nI_add, gd_t (inb_nI (show 210 + 16 * kk + 2 < 800 by omega) (by decide)), c2, lt_is, show 210 + 16 * kk + 2 = 212 + 16 * kk by omega, hv]
  have h1302 : ∀ v, I0 1302 t = v → I 1302 t = v := fun v hv => by rw [hc.rd (f := 1302) (by decide)]; exact hv
  rcases (show wh = 2 ∨ wh = 3 ∨ wh = 4 ∨ wh = 0 ∨ wh = 1 by omega) with rfl | rfl | rfl | h01
  · -- stop
    obtain ⟨s, es, rest', load', done', waits', most', state', rfl, hz14⟩ := start_ok (P := P) (N := 0) (how := 0) (w := w) hY.2.1.2.2.2.2.2.2.2 hY.1.2.2.2.2.2 (by decide) (by decide) y3 y4 y5 y6 y7 y8 y9 y10 y11 y13 y14 y15 y16 y17 y18
    rw [if_neg (show ¬ nI 2 = 3 by decide)]
    unfold w1_nights_j108
    rw [if_neg (show ¬ nI 2 = 4 by decide)]
    unfold w1_nights_j130
    rw [lt_is, h1301, if_pos (show nI 2 ≤ 2 by decide), if_neg (show ¬ nI 2 = 0 by decide), if_neg (show ¬ nI 2 = 1 by decide)]
    unfold w1_nights_j174 w1_nights_j201
    rw [if_pos rfl, lt_is, nI_1]
    refine ok_i ?_
    rw [if_pos (show (2 : Int32) ≤ nI 2 by decide)]
    unfold f14_spend_j157
    rw [if_pos (show nI 2 = 2 from rfl)]
    refine ok_e es ?_
    unfold f14_spend_j169
    rw [if_neg (show ¬ nI 2 = 3 by decide)]
    unfold f14_spend_j185
    rw [if_neg (show ¬ nI 2 = 4 by decide)]
    unfold f14_spend_j205
    rw [lt_is, nI_1]
    exact ok_i (Or.inr ⟨hk, _, _, rfl, rfl, ⟨hc, rfl, rfl, rfl, hzI⟩, ⟨rfl, haim⟩, ⟨rfl, rfl⟩, ⟨hT.1, rfl, Or.inl ⟨rfl, rfl⟩⟩, ⟨F, BB, hg⟩, h904, h905, hrows⟩)
  · -- aim
    obtain ⟨v, v1, v2, v3, v4, -⟩ := w5 (by decide)
    rw [if_pos (show nI 3 = 3 from rfl), h1302 _ v2]
    unfold w1_nights_j108
    rw [if_neg (show ¬ nI 3 = 4 by decide)]
    unfold w1_nights_j130
    rw [lt_is, h1301, if_neg (show ¬ nI 3 ≤ 2 by decide)]
    unfold w1_nights_j201
    rw [lt_is, nI_1]
    refine ok_i ?_
    rw [if_pos (show (2 : Int32) ≤ nI 3 by decide)]
    unfold f14_spend_j157
    rw [if_neg (show ¬ nI 3 = 2 by decide)]
    unfold f14_spend_j169
    rw [if_pos (show nI 3 = 3 from rfl), lt_is]
    refine (show Ok (gd (inb (nI (210 + 16 * kk) + 2) 800) <| lt (w (nI (210 + 16 * kk) + (2 : Int32)).toNatClampNeg) fun v56 => f14_spend_j185 ((1 : Int32), w) (nI kk) y19 y20 (nI (210 + 16 * kk)) (nI 3) y12 y3 y4 y5 y6 y7 y8 y9 y10 y11 y13 y14 y15 y16 y17 y18 v56) _ from ?_)
    rw [hv _ v3]
    unfold f14_spend_j185
    rw [if_neg (show ¬ nI 3 = 4 by decide)]
    unfold f14_spend_j205
    rw [lt_is, nI_1]
    refine ok_i (Or.inr ⟨hk, _, _, rfl, rfl, ⟨hc, rfl, rfl, rfl, hzI⟩, ⟨rfl, ?_⟩, ⟨rfl, rfl⟩, hT, ⟨F, BB, hg⟩, h904, h905, hrows⟩)
    rcases v4 rfl with q | ⟨q1, q2, q3⟩
    · exact Or.inl ⟨v, by omega, rfl⟩
    · exact Or.inr ⟨(v - 100) / 10, (v - 100) % 10, q3, q2, congrArg nI (by omega)⟩
  · -- give
    obtain ⟨v, v1, v2, v3, -, v4⟩ := w5 (by decide)
    have hvC := v4 rfl
    have hY' := hY
    obtain ⟨⟨-, hC, hR, -⟩, ⟨-, -, -, w9, g305, w10, -⟩, -⟩ := hY'
    have e305 : I 305 yy = nI R := by rw [hc.rd (f := 305) (by decide)]; exact g305
    obtain ⟨r, er, rg, eg, T, F', B'', -, -, -, hg'⟩ := give_ok hg w9 w10 hC hR hvC
    rw [if_neg (show ¬ nI 4 = 3 by decide)]
    unfold w1_nights_j108
    rw [if_pos (show nI 4 = 4 from rfl)]
    simp only [lt_is]
    rw [hX45, bind_is, h904, bind_is, gdp_t hS114, gdp_t hsy, h1302 _ v2, e305]
    refine ok_e (x := r) er ?_
    unfold w1_nights_j130
    rw [lt_is, h1301, if_neg (show ¬ nI 4 ≤ 2 by decide)]
    unfold w1_nights_j201
    rw [lt_is, nI_1]
    refine ok_i ?_
    rw [if_pos (show (2 : Int32) ≤ nI 4 by decide)]
    unfold f14_spend_j157
    rw [if_neg (show ¬ nI 4 = 2 by decide)]
    unfold f14_spend_j169
    rw [if_neg (show ¬ nI 4 = 3 by decide)]
    unfold f14_spend_j185
    rw [if_pos (show nI 4 = 4 from rfl), lt_is]
    refine (show Ok (gd (inb (nI (210 + 16 * kk) + 2) 800) <| lt (w (nI (210 + 16 * kk) + (2 : Int32)).toNatClampNeg) fun v51 => (f14_givesUp v51 w y19 y20).bind fun rr52 => f14_spend_j205 (nI kk) y12 y3 y4 y5 y6 y7 y8 y9 y10 y11 y13 y14 y15 y16 y17 y18 aim rr52.2.1 rr52.2.2) _ from ?_)
    rw [hv _ v3]
    refine ok_e eg ?_
    unfold f14_spend_j205
    rw [lt_is, nI_1]
    have hAf : ∀ a, a ≠ z + 115 → a ≠ z + 118 → ova A [(z + 114 + 1, r.2.1), (z + 114 + 4, r.2.2)] a = A a := fun a q1 q2 => ova_fr (fun p hp e => by
      simp only [List.mem_cons, List.not_mem_nil, or_false] at hp
      rcases hp with rfl | rfl <;> (dsimp only at e; omega))
    refine ok_i (Or.inr ⟨hk, _, _, rfl, rfl, ⟨hc.putA (by simp only [List.forall_mem_cons]; (repeat' apply And.intro); all_goals first | exact fun _ h => absurd h (List.not_mem_nil) | exact (by unfold Lo; omega) | exact Or.inl (by unfold Sc; omega) | exact Or.inl (by unfold ScM; omega) | exact Or.inr rfl | exact Or.inr trivial | exact Or.inl trivial | exact Or.inr (Or.inl trivial) | exact Or.inr (Or.inr ⟨trivial, by omega⟩) | omega), rfl, rfl, rfl, hzI⟩, ⟨rfl, haim⟩, ⟨rfl, rfl⟩, hT.fr (fun _ => ⟨rfl, rfl⟩) ⟨rfl, rfl⟩ (fun k h1 h2 => hAf _ (by omega) (by omega)), ⟨F', B'', ?_⟩, h904, h905, fun k h1 h2 => (hAf _ (by omega) (by omega)).trans (hrows k h1 h2)⟩)
    have q1 : ova A [(z + 114 + 1, r.2.1), (z + 114 + 4, r.2.2)] (z + 115) = r.2.1 := by simp [ova, a_up]
    have q2 : ova A [(z + 114 + 1, r.2.1), (z + 114 + 4, r.2.2)] (z + 118) = r.2.2 := by simp [ova, a_up]
    dsimp only
    rw [q1, q2, hAf (z + 116) (by omega) (by omega)]
    exact hg'
  · -- a team begins
    obtain ⟨r, n, r1, r2, r3, n1, n2, n3, r4, r5, r6⟩ := w4 (by omega)
    have h1303 : I 1303 t = nI n := by rw [hc.rd (f := 1303) (by decide)]; exact r4
    have h1304 : X 1304 t = some r := (hc.x 1304 _ (by omega)).trans r1
    have hrS : ¬ Sc z r ∧ (r < z + 14 ∨ z + 172 ≤ r) := by
      unfold Fz at r2
      unfold Sc
      omega
    have hAr : A r = A0 r := hc.a r hrS.1
    have hg38 : z + 38 + 21 < r ∨ r + 0 < z + 38 := by
      have := hrS.2
      omega
    have hr39 : ∀ d, 1 ≤ d → d ≤ 21 → ¬ z + 38 + d = r := fun d _ _ => by
      have := hrS.2
      omega
    have hg65 : z + 65 + 4 < r ∨ r + 0 < z + 65 := by
      have := hrS.2
      omega
    have hl12 : alen K r 0 = some 12 := alen_is r3
    have hy200 : X 200 (z + 7) = some yy := (hc.x 200 _ (by omega)).trans hy
    have hPP := hY.1
    have w2' : w 2 = nI P := hY.2.1.2.2.2.2.2.2.2
    have e307 : I 307 yy = nI P := by rw [hc.rd (f := 307) (by decide)]; exact hY.2.1.2.2.2.2.2.2.1
    obtain ⟨tm', etm, htm⟩ := copy_team (b := 210 + 16 * kk) (bg := 1) (w := w) (by omega) n1 (by rw [show 210 + 16 * kk + 2 = 212 + 16 * kk by omega]; exact r5) y12
    have htm' : ∀ k, k < n → ∃ q, q < M ∧ A0 r k = nI q ∧ tm' k = nI q := fun k hk => by
      obtain ⟨q, q1, q2, q3⟩ := r6 k hk
      exact ⟨q, q1, q2, by rw [htm k hk, show 210 + 16 * kk + 3 + k = 213 + 16 * kk + k by omega]; exact q3⟩
    rcases h01 with rfl | rfl
    · have hn2 := n3 rfl
      obtain ⟨rb, erb, men', dn', bs', li', st', fi', hp', rfl, hm', hz1⟩ := rowBegin_ok (P := P) (wat := nI Wt) (x2 := A r) n1 (I 702 (z + 38)) (I 703 (z + 38)) (I 704 (z + 38)) (I 705 (z + 38)) (I 714 (z + 38)) (I 715 (z + 38)) (I 716 (z + 38)) (I 717 (z + 38)) (I 718 (z + 38)) (A (z + 38 + 1)) (A (z + 38 + 2)) (A (z + 38 + 3)) (A (z + 38 + 4)) (A (z + 38 + 5)) (A (z + 38 + 6)) (A (z + 38 + 7))
      obtain ⟨s, es, rest', load', done', waits', most', state', rfl, hz14⟩ := start_ok (P := P) (N := n) (how := 1) (w := w) w2' hPP.2.2.2.2.2 n1 (by decide) y3 y4 y5 y6 y7 y8 y9 y10 y11 y13 y14 y15 y16 y17 y18
      rw [if_neg (show ¬ nI 0 = 3 by decide)]
      unfold w1_nights_j108
      rw [if_neg (show ¬ nI 0 = 4 by decide)]
      unfold w1_nights_j130
      rw [lt_is, h1301, if_pos (show nI 0 ≤ 2 by decide), if_pos (show nI 0 = 0 from rfl), lt_is, hX14]
      unfold w1_nights_j174
      rw [if_neg (fun h => nomatch h)]
      simp only [lt_is]
      rw [hX9, bind_is, gdp_t hK7, bind_is, if_pos hS38.1, hy200, bind_is, h1304, bind_is, hl12, bind_is, gdp_t hS38, gdp_t hsy, gdp_t hg38, h1303, e307]
      refine ok_e erb ?_
      unfold w1_nights_j201
      rw [lt_is, nI_1]
      refine ok_i ?_
      rw [if_neg (show ¬ (2 : Int32) ≤ nI 0 by decide)]
      refine ok_e etm ?_
      unfold f14_spend_e60_0
      rw [if_pos (show nI 0 = 0 from rfl)]
      unfold f14_spend_j145
      rw [lt_is]
      refine (show Ok (gd (inb (nI (210 + 16 * kk) + 2) 800) <| lt (w (nI (210 + 16 * kk) + (2 : Int32)).toNatClampNeg) fun v63 => (f14_start (1 : Int32) v63 y3 y4 y5 y6 y7 y8 y9 y10 y11 w y13 y14 y15 y16 y17 y18).bind fun rr64 => f14_spend_j157 ((1 : Int32), w) aim (nI kk) y19 y20 (nI (210 + 16 * kk)) (nI 0) rr64.1 rr64.2.1 rr64.2.2.1 rr64.2.2.2.1 rr64.2.2.2.2.1 rr64.2.2.2.2.2.1 rr64.2.2.2.2.2.2.1 rr64.2.2.2.2.2.2.2.1 rr64.2.2.2.2.2.2.2.2.1 tm' rr64.2.2.2.2.2.2.2.2.2.1 rr64.2.2.2.2.2.2.2.2.2.2.1 rr64.2.2.2.2.2.2.2.2.2.2.2.1 rr64.2.2.2.2.2.2.2.2.2.2.2.2.1 rr64.2.2.2.2.2.2.2.2.2.2.2.2.2.1 rr64.2.2.2.2.2.2.2.2.2.2.2.2.2.2) _ from ?_)
      rw [hv _ r5]
      refine ok_e es ?_
      unfold f14_spend_j157
      rw [if_neg (show ¬ nI 0 = 2 by decide)]
      unfold f14_spend_j169
      rw [if_neg (show ¬ nI 0 = 3 by decide)]
      unfold f14_spend_j185
      rw [if_neg (show ¬ nI 0 = 4 by decide)]
      unfold f14_spend_j205
      rw [lt_is, nI_1]
      obtain ⟨I1, hI1⟩ : ∃ I1, I1 = ov I [(702, z + 38, nI n), (703, z + 38, nI Wt), (704, z + 38, 0), (705, z + 38, 0), (714, z + 38, nI P), (715, z + 38, 0), (716, z + 38, 0), (717, z + 38, 0), (718, z + 38, 0)] := ⟨_, rfl⟩
      obtain ⟨X1, hX1⟩ : ∃ X1, X1 = ov X [(701, z + 38, some yy)] := ⟨_, rfl⟩
      obtain ⟨A1, hA1⟩ : ∃ A1, A1 = ova A [(z + 38 + 1, men'), (z + 38 + 2, dn'), (z + 38 + 3, bs'), (z + 38 + 4, li'), (z + 38 + 5, st'), (z + 38 + 6, fi'), (z + 38 + 7, hp'), (r, A r)] := ⟨_, rfl⟩
      have hc1 : Chg z I0 X0 A0 I1 X1 A1 := by
        subst hI1 hX1 hA1
        exact ((hc.putI (by simp only [List.forall_mem_cons]; (repeat' apply And.intro); all_goals first | exact fun _ h => absurd h (List.not_mem_nil) | exact (by unfold Lo; omega) | exact Or.inl (by unfold Sc; omega) | exact Or.inl (by unfold ScM; omega) | exact Or.inr rfl | exact Or.inr trivial | exact Or.inl trivial | exact Or.inr (Or.inl trivial) | exact Or.inr (Or.inr ⟨trivial, by omega⟩) | omega) (by rfl)).putX (by simp only [List.forall_mem_cons]; (repeat' apply And.intro); all_goals first | exact fun _ h => absurd h (List.not_mem_nil) | exact (by unfold Lo; omega) | exact Or.inl (by unfold Sc; omega) | exact Or.inl (by unfold ScM; omega) | exact Or.inr rfl | exact Or.inr trivial | exact Or.inl trivial | exact Or.inr (Or.inl trivial) | exact Or.inr (Or.inr ⟨trivial, by omega⟩) | omega)).putA (by simp only [List.forall_mem_cons]; (repeat' apply And.intro); all_goals first | exact fun _ h => absurd h (List.not_mem_nil) | exact (by unfold Lo; omega) | exact Or.inl (by unfold Sc; omega) | exact Or.inl (by unfold ScM; omega) | exact Or.inr rfl | exact Or.inr trivial | exact Or.inl trivial | exact Or.inr (Or.inl trivial) | exact Or.inr (Or.inr ⟨trivial, by omega⟩) | omega)
      have eA1 : ∀ k, 70 ≤ k → k < 172 → A1 (z + k) = A (z + k) := fun k h1 h2 => by
        subst hA1
        refine ova_fr (fun p hp e => ?_)
        simp only [List.mem_cons, List.not_mem_nil, or_false] at hp
        rcases hp with rfl | rfl | rfl | rfl | rfl | rfl | rfl | rfl
        all_goals first | (dsimp only at e; omega) | (dsimp only at e ⊢; rw [e])
      have e905 : I1 905 (z + 114) = I 905 (z + 114) := by
        subst hI1
        simp [ov, i_up]
      have eI1z : ∀ f, I1 f z = I f z := fun f => by
        subst hI1
        refine ov_fr (fun p hp e => ?_)
        simp only [List.mem_cons, List.not_mem_nil, or_false] at hp
        rcases hp with rfl | rfl | rfl | rfl | rfl | rfl | rfl | rfl | rfl <;> (dsimp only at e; omega)
      have e904 : X1 904 (z + 114) = X 904 (z + 114) := by
        subst hX1
        simp [ov, i_up]
      have hAv : A1 (z + 39) = men' ∧ A1 (z + 40) = dn' ∧ A1 (z + 41) = bs' ∧ A1 (z + 42) = li' ∧ A1 (z + 43) = st' ∧ A1 (z + 44) = fi' ∧ A1 (z + 45) = hp' ∧ A1 (z + 59) = A (z + 59) := by
        have n1 := hr39 1 (by decide) (by decide)
        have n2 := hr39 2 (by decide) (by decide)
        have n3 := hr39 3 (by decide) (by decide)
        have n4 := hr39 4 (by decide) (by decide)
        have n5 := hr39 5 (by decide) (by decide)
        have n6 := hr39 6 (by decide) (by decide)
        have n7 := hr39 7 (by decide) (by decide)
        have n21 := hr39 21 (by decide) (by decide)
        rw [hA1]
        refine ⟨?_, ?_, ?_, ?_, ?_, ?_, ?_, ?_⟩ <;> simp [ova, a_up]
        intro e
        exact absurd e n21
      have hG := row_start (N := n) (P := P) (W0 := Wt) (bk := bk) (dn := dn') (bs := bs') (li := li') (st := st') (fi := fi') (hp := hp') (bks := A (z + 59)) (pa := fun j => A1 (z + 47 + j)) (queue := queue) (comes := comes) n1 hPP.2.2.2.2.2 hT.1 hz1 hz14 n2
      refine ok_i (Or.inr ⟨hk, (some (z + 38), aim, nI (kk + 1), I1, J', X1, A1, B', Q'), _, ?_, rfl, ⟨hc1, rfl, rfl, rfl, fun f => (eI1z f).trans (hzI f)⟩, ⟨rfl, haim⟩, ⟨rfl, rfl⟩, ⟨hT.1, rfl, Or.inr (Or.inl ⟨rfl, rfl, n, P, Wt, 0, hn2, n1, hPP.2.2.2.2.2, Nat.zero_le _, ?_, ?_, ?_, ?_, ?_⟩)⟩, ⟨F, BB, ?_⟩, ?_, ?_, fun k h1 h2 => ?_⟩)
      · rw [hI1, hX1, hA1]
      · rfl
      · show X1 701 (z + 38) = some yy
        rw [hX1]
        simp [ov, i_up]
      · show I1 702 (z + 38) = nI n
        rw [hI1]
        simp [ov, i_up]
      · intro k hk'
        show ∃ q, q < M ∧ A1 (z + 39) k = nI q ∧ tm' k = nI q
        obtain ⟨q, q1, q2, q3⟩ := htm' k hk'
        refine ⟨q, q1, ?_, q3⟩
        rw [hAv.1, hm' k hk', hAr]
        exact q2
      · have hIv : I1 703 (z + 38) = nI Wt ∧ I1 704 (z + 38) = 0 ∧ I1 705 (z + 38) = 0 ∧ I1 714 (z + 38) = nI P ∧ I1 715 (z + 38) = 0 ∧ I1 716 (z + 38) = 0 ∧ I1 717 (z + 38) = 0 ∧ I1 718 (z + 38) = 0 := by
          rw [hI1]
          simp [ov, i_up]
        obtain ⟨i1, i2, i3, i4, i5, i6, i7, i8⟩ := hIv
        obtain ⟨-, a2, a3, a4, a5, a6, a7, a8⟩ := hAv
        dsimp only
        rw [i1, i2, i3, i4, i5, i6, i7, i8, a2, a3, a4, a5, a6, a7, a8]
        exact hG
      · dsimp only
        rw [eA1 115 (by decide) (by decide), eA1 116 (by decide) (by decide), eA1 118 (by decide) (by decide)]
        exact hg
      · exact e904.trans h904
      · exact e905.trans h905
      · exact (eA1 k (by omega) (by omega)).trans (hrows k h1 h2)
    · obtain ⟨rb, erb, men', does', rfl, hm', hz1⟩ := runBegin_ok (P := P) (wat := nI Wt) (x2 := A r) n1 hPP.2.2.2.2.2 (I 802 (z + 65)) (I 803 (z + 65)) (I 804 (z + 65)) (I 805 (z + 65)) (I 809 (z + 65)) (A (z + 65 + 1)) (A (z + 65 + 2))
      obtain ⟨s, es, rest', load', done', waits', most', state', rfl, hz14⟩ := start_ok (P := P) (N := n) (how := 2) (w := w) w2' hPP.2.2.2.2.2 n1 (by decide) y3 y4 y5 y6 y7 y8 y9 y10 y11 y13 y14 y15 y16 y17 y18
      have hK65 : K (z + 65) = some (.inl 8) := hS65.1
      have hKn7 : ¬ K (z + 65) = some (.inl 7) := by
        rw [hK65]
        decide
      rw [if_neg (show ¬ nI 1 = 3 by decide)]
      unfold w1_nights_j108
      rw [if_neg (show ¬ nI 1 = 4 by decide)]
      unfold w1_nights_j130
      rw [lt_is, h1301, if_pos (show nI 1 ≤ 2 by decide), if_neg (show ¬ nI 1 = 0 by decide), if_pos (show nI 1 = 1 from rfl), lt_is, hX16]
      unfold w1_nights_j174
      rw [if_neg (fun h => nomatch h)]
      simp only [lt_is]
      rw [hX9, bind_is, gdp_t hK7, bind_is, if_neg hKn7, gdp_t hK65, hy200, bind_is, h1304, bind_is, hl12, bind_is, gdp_t hS65, gdp_t hsy, gdp_t hg65, h1303, e307]
      refine ok_e erb ?_
      unfold w1_nights_j201
      rw [lt_is, nI_1]
      refine ok_i ?_
      rw [if_neg (show ¬ (2 : Int32) ≤ nI 1 by decide)]
      refine ok_e etm ?_
      unfold f14_spend_e60_0
      rw [if_neg (show ¬ nI 1 = 0 by decide)]
      unfold f14_spend_j145
      rw [lt_is]
      refine (show Ok (gd (inb (nI (210 + 16 * kk) + 2) 800) <| lt (w (nI (210 + 16 * kk) + (2 : Int32)).toNatClampNeg) fun v63 => (f14_start (2 : Int32) v63 y3 y4 y5 y6 y7 y8 y9 y10 y11 w y13 y14 y15 y16 y17 y18).bind fun rr64 => f14_spend_j157 ((1 : Int32), w) aim (nI kk) y19 y20 (nI (210 + 16 * kk)) (nI 1) rr64.1 rr64.2.1 rr64.2.2.1 rr64.2.2.2.1 rr64.2.2.2.2.1 rr64.2.2.2.2.2.1 rr64.2.2.2.2.2.2.1 rr64.2.2.2.2.2.2.2.1 rr64.2.2.2.2.2.2.2.2.1 tm' rr64.2.2.2.2.2.2.2.2.2.1 rr64.2.2.2.2.2.2.2.2.2.2.1 rr64.2.2.2.2.2.2.2.2.2.2.2.1 rr64.2.2.2.2.2.2.2.2.2.2.2.2.1 rr64.2.2.2.2.2.2.2.2.2.2.2.2.2.1 rr64.2.2.2.2.2.2.2.2.2.2.2.2.2.2) _ from ?_)
      rw [hv _ r5]
      refine ok_e es ?_
      unfold f14_spend_j157
      rw [if_neg (show ¬ nI 1 = 2 by decide)]
      unfold f14_spend_j169
      rw [if_neg (show ¬ nI 1 = 3 by decide)]
      unfold f14_spend_j185
      rw [if_neg (show ¬ nI 1 = 4 by decide)]
      unfold f14_spend_j205
      rw [lt_is, nI_1]
      obtain ⟨I1, hI1⟩ : ∃ I1, I1 = ov I [(802, z + 65, nI (min n P)), (803, z + 65, nI Wt), (804, z + 65, 0), (805, z + 65, 0), (809, z + 65, 0)] := ⟨_, rfl⟩
      obtain ⟨X1, hX1⟩ : ∃ X1, X1 = ov X [(801, z + 65, some yy)] := ⟨_, rfl⟩
      obtain ⟨A1, hA1⟩ : ∃ A1, A1 = ova A [(z + 65 + 1, men'), (z + 65 + 2, does'), (r, A r)] := ⟨_, rfl⟩
      have hc1 : Chg z I0 X0 A0 I1 X1 A1 := by
        subst hI1 hX1 hA1
        exact ((hc.putI (by simp only [List.forall_mem_cons]; (repeat' apply And.intro); all_goals first | exact fun _ h => absurd h (List.not_mem_nil) | exact (by unfold Lo; omega) | exact Or.inl (by unfold Sc; omega) | exact Or.inl (by unfold ScM; omega) | exact Or.inr rfl | exact Or.inr trivial | exact Or.inl trivial | exact Or.inr (Or.inl trivial) | exact Or.inr (Or.inr ⟨trivial, by omega⟩) | omega) (by rfl)).putX (by simp only [List.forall_mem_cons]; (repeat' apply And.intro); all_goals first | exact fun _ h => absurd h (List.not_mem_nil) | exact (by unfold Lo; omega) | exact Or.inl (by unfold Sc; omega) | exact Or.inl (by unfold ScM; omega) | exact Or.inr rfl | exact Or.inr trivial | exact Or.inl trivial | exact Or.inr (Or.inl trivial) | exact Or.inr (Or.inr ⟨trivial, by omega⟩) | omega)).putA (by simp only [List.forall_mem_cons]; (repeat' apply And.intro); all_goals first | exact fun _ h => absurd h (List.not_mem_nil) | exact (by unfold Lo; omega) | exact Or.inl (by unfold Sc; omega) | exact Or.inl (by unfold ScM; omega) | exact Or.inr rfl | exact Or.inr trivial | exact Or.inl trivial | exact Or.inr (Or.inl trivial) | exact Or.inr (Or.inr ⟨trivial, by omega⟩) | omega)
      have eA1 : ∀ k, 68 ≤ k → k < 172 → A1 (z + k) = A (z + k) := fun k h1 h2 => by
        subst hA1
        refine ova_fr (fun p hp e => ?_)
        simp only [List.mem_cons, List.not_mem_nil, or_false] at hp
        rcases hp with rfl | rfl | rfl
        all_goals first | (dsimp only at e; omega) | (dsimp only at e ⊢; rw [e])
      have e905 : I1 905 (z + 114) = I 905 (z + 114) := by
        subst hI1
        simp [ov, i_up]
      have eI1z : ∀ f, I1 f z = I f z := fun f => by
        subst hI1
        refine ov_fr (fun p hp e => ?_)
        simp only [List.mem_cons, List.not_mem_nil, or_false] at hp
        rcases hp with rfl | rfl | rfl | rfl | rfl <;> (dsimp only at e; omega)
      have e904 : X1 904 (z + 114) = X 904 (z + 114) := by
        subst hX1
        simp [ov, i_up]
      have hAv : A1 (z + 66) = men' ∧ A1 (z + 67) = does' := by
        rw [hA1]
        refine ⟨?_, ?_⟩ <;> simp [ova, a_up]
      have hG := run_start (P := P) (N := min n P) (W0 := Wt) (does := does') (left := A (z + 68)) (lis := A (z + 69)) (queue := queue) (comes := comes) (by omega) hT.1 hz1 hz14
      refine ok_i (Or.inr ⟨hk, (some (z + 65), aim, nI (kk + 1), I1, J', X1, A1, B', Q'), _, ?_, rfl, ⟨hc1, rfl, rfl, rfl, fun f => (eI1z f).trans (hzI f)⟩, ⟨rfl, haim⟩, ⟨rfl, rfl⟩, ⟨hT.1, rfl, Or.inr (Or.inr ⟨rfl, rfl, min n P, Wt, 0, by omega, Nat.zero_le _, ?_, ?_, ?_, ?_, ?_⟩)⟩, ⟨F, BB, ?_⟩, ?_, ?_, fun k h1 h2 => ?_⟩)
      · rw [hI1, hX1, hA1]
      · rfl
      · show X1 801 (z + 65) = some yy
        rw [hX1]
        simp [ov, i_up]
      · show I1 802 (z + 65) = nI (min n P)
        rw [hI1]
        simp [ov, i_up]
      · intro k hk'
        show ∃ q, q < M ∧ A1 (z + 66) k = nI q ∧ tm' k = nI q
        obtain ⟨q, q1, q2, q3⟩ := htm' k (by omega)
        refine ⟨q, q1, ?_, q3⟩
        rw [hAv.1, hm' k hk', hAr]
        exact q2
      · have hIv : I1 803 (z + 65) = nI Wt ∧ I1 804 (z + 65) = 0 ∧ I1 805 (z + 65) = 0 ∧ I1 809 (z + 65) = 0 := by
          rw [hI1]
          simp [ov, i_up]
        obtain ⟨i1, i2, i3, i4⟩ := hIv
        dsimp only
        rw [i1, i2, i3, i4, hAv.2, eA1 68 (by decide) (by decide), eA1 69 (by decide) (by decide)]
        exact hG
      · dsimp only
        rw [eA1 115 (by decide) (by decide), eA1 116 (by decide) (by decide), eA1 118 (by decide) (by decide)]
        exact hg
      · exact e904.trans h904
      · exact e905.trans h905
      · exact (eA1 k (by omega) (by omega)).trans (hrows k h1 h2)
