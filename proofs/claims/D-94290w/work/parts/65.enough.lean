/-! the plain law: enough -/
set_option maxRecDepth 100000
theorem enough_round {C R t p : Nat} {wnd a : Int32} {F B : Nat → Nat → Nat} {w : Nat → Int32} {x : Int32 × (Nat → Int32) × (Nat → Int32) × (Nat → Int32) × (Nat → Int32)} {y : Int32 × Int32 × (Nat → Int32) × (Nat → Int32) × (Nat → Int32) × (Nat → Int32) × (Nat → Int32) × (Nat → Int32)} (h : Gr C R 0 F B (fun _ _ => 0) x.2.1 x.2.2.1 x.2.2.2.2 y.2.2.1 y.2.2.2.2.1 y.2.2.2.1) (hl1 : x.1 = nI 0) (hl14 : y.1 = nI 0) (w9 : w 9 = nI C) (w10 : w 10 = nI R) (w11 : w 11 = wnd) (hC : C ≤ 8) (hR : R ≤ 8) (ht : t ≤ 200) (hp : p ≤ 60) (ha : Aim C R a) :
    Ok (whl (fun (s8 : Int32 × Int32 × (Nat → Int32) × (Nat → Int32) × (Nat → Int32) × (Nat → Int32)) => f1_enough_s8 a (nI p) (nI C) (nI R) wnd (nI t) s8.1 s8.2.1 s8.2.2.1 s8.2.2.2.1 s8.2.2.2.2.1 s8.2.2.2.2.2) FU ((0 : Int32), x)) (fun r => Ok (f14_fires (nI p) (nI t) a 0 y.1 y.2.1 w y.2.2.1 y.2.2.2.1 y.2.2.2.2.1 y.2.2.2.2.2.1 y.2.2.2.2.2.2.1 y.2.2.2.2.2.2.2) (fun q => ∃ n : Nat, n ≤ 64 ∧ f12_burning r.2.2.2.2 = some (nI n) ∧ ((n = 0 ∧ ¬ q.2.1 = -1) ∨ (¬ n = 0 ∧ q.2.1 = -1)))) := by
  obtain ⟨n0, en, n0', en', k0, hk0, rfl, rfl⟩ := burning_eq h w9 w10 hC hR
  have hstop : ∀ (j : Nat) (xj : Int32 × (Nat → Int32) × (Nat → Int32) × (Nat → Int32) × (Nat → Int32)), j ≤ 60 → f12_burning xj.2.2.2.2 = some (nI 0) → f1_enough_s8 a (nI p) (nI C) (nI R) wnd (nI t) (nI j) xj.1 xj.2.1 xj.2.2.1 xj.2.2.2.1 xj.2.2.2.2 = some (.inr xj) := by
    intro j xj hj e
    unfold f1_enough_s8
    by_cases q : p ≤ j
    · rw [if_pos (nI_le q (by omega))]
    · rw [if_neg (nI_ge (by omega) (by omega)), e, bind_is, if_pos (by decide)]
  have key : ∀ o : Int32, o = (if k0 = 0 then 0 else -1) → Ok (whl (fun (s2 : Int32 × Int32 × Int32 × (Nat → Int32) × (Nat → Int32) × (Nat → Int32) × (Nat → Int32) × (Nat → Int32) × (Nat → Int32)) => f14_fires_s2 (nI p) (nI t) a 0 w s2.1 s2.2.1 s2.2.2.1 s2.2.2.2.1 s2.2.2.2.2.1 s2.2.2.2.2.2.1 s2.2.2.2.2.2.2.1 s2.2.2.2.2.2.2.2.1 s2.2.2.2.2.2.2.2.2) FU ((0 : Int32), y.1, o, y.2.2)) (fun q => ∃ r, whl (fun (s8 : Int32 × Int32 × (Nat → Int32) × (Nat → Int32) × (Nat → Int32) × (Nat → Int32)) => f1_enough_s8 a (nI p) (nI C) (nI R) wnd (nI t) s8.1 s8.2.1 s8.2.2.1 s8.2.2.2.1 s8.2.2.2.2.1 s8.2.2.2.2.2) FU ((0 : Int32), x) = some r ∧ ∃ n : Nat, n ≤ 64 ∧ f12_burning r.2.2.2.2 = some (nI n) ∧ ((n = 0 ∧ ¬ q.2.1 = -1) ∨ (¬ n = 0 ∧ q.2.1 = -1))) := by
    intro o ho
    refine for_ok (fun i (z : Int32 × Int32 × (Nat → Int32) × (Nat → Int32) × (Nat → Int32) × (Nat → Int32) × (Nat → Int32) × (Nat → Int32)) => (nI i, z)) (fun i z => ∃ (x' : Int32 × (Nat → Int32) × (Nat → Int32) × (Nat → Int32) × (Nat → Int32)) (l : Nat) (F B V : Nat → Nat → Nat), x'.1 = nI l ∧ z.1 = nI l ∧ l ≤ 64 * i ∧ Gr C R (t * i) F B V x'.2.1 x'.2.2.1 x'.2.2.2.2 z.2.2.1 z.2.2.2.2.1 z.2.2.2.1 ∧ ((z.2.1 = -1 ∧ itr (fun (s8 : Int32 × Int32 × (Nat → Int32) × (Nat → Int32) × (Nat → Int32) × (Nat → Int32)) => f1_enough_s8 a (nI p) (nI C) (nI R) wnd (nI t) s8.1 s8.2.1 s8.2.2.1 s8.2.2.2.1 s8.2.2.2.2.1 s8.2.2.2.2.2) i ((0 : Int32), x) (nI i, x') ∧ ∃ n : Nat, n ≤ 64 ∧ ¬ n = 0 ∧ f12_burning x'.2.2.2.2 = some (nI n)) ∨ (¬ z.2.1 = -1 ∧ ∃ (j : Nat) (xj : Int32 × (Nat → Int32) × (Nat → Int32) × (Nat → Int32) × (Nat → Int32)), j ≤ 60 ∧ itr (fun (s8 : Int32 × Int32 × (Nat → Int32) × (Nat → Int32) × (Nat → Int32) × (Nat → Int32)) => f1_enough_s8 a (nI p) (nI C) (nI R) wnd (nI t) s8.1 s8.2.1 s8.2.2.1 s8.2.2.2.1 s8.2.2.2.2.1 s8.2.2.2.2.2) j ((0 : Int32), x) (nI j, xj) ∧ f12_burning xj.2.2.2.2 = some (nI 0)))) p (by omega) (x := (y.1, o, y.2.2)) ⟨x, 0, F, B, _, hl1, hl14, Nat.zero_le _, h, ?_⟩ ?_ ?_
    · by_cases q : k0 = 0
      · subst q
        exact Or.inr ⟨by rw [ho]; show ¬ (if 0 = 0 then (0 : Int32) else -1) = -1; decide, 0, x, Nat.zero_le _, rfl, en⟩
      · exact Or.inl ⟨by rw [ho, if_neg q], rfl, k0, hk0, q, en⟩
    · rintro i ⟨z1, z2, z3, z4, z5, z6, z7, z8⟩ hi ⟨⟨x1, x2, x3, x4, x5⟩, l, F, B, V, e1, e2, hl, hg, hd⟩
      dsimp only at e1 e2 hg hd ⊢
      subst e1 e2
      have hti : t * i ≤ 200 * 60 := Nat.mul_le_mul ht (by omega)
      obtain ⟨u, eu, m, em, oo, eo, y', rfl, ⟨l', hl', g1, g2⟩, ⟨F', B', V', g3⟩, n, hn, g4, g5⟩ := fires_step (p := p) (oat := z2) (ht1 := x4) (ht14 := z6) (fw := z7) (bw := z8) (a := a) (wnd := wnd) hg w9 w10 w11 hC hR (show t * i + t < 2 ^ 29 by omega) (show l < 2 ^ 29 by omega) ha hi hp
      refine ok_eq eo ⟨y', rfl, m, l', F', B', V', g1, g2, by omega, by rw [Nat.mul_succ]; exact g3, ?_⟩
      rcases hd with ⟨d1, d2, n', hn', hn0, d3⟩ | ⟨d1, d2⟩
      · have hs : f1_enough_s8 a (nI p) (nI C) (nI R) wnd (nI t) (nI i) (nI l) x2 x3 x4 x5 = some (.inl (nI (i + 1), m)) := by
          unfold f1_enough_s8
          rw [if_neg (nI_ge hi (by omega)), d3, bind_is, if_neg (nI_nle (by omega) (by omega)), eu, bind_is, em, bind_is, lt_is, nI_1]
        have hit := itr_snoc d2 hs
        rw [if_pos d1] at g5
        by_cases q : n = 0
        · subst q
          rw [if_pos rfl] at g5
          exact Or.inr ⟨by rw [g5]; exact nI_nm1 (by omega), i + 1, m, by omega, hit, g4⟩
        · rw [if_neg q] at g5
          exact Or.inl ⟨g5, hit, n, hn, q, g4⟩
      · rw [if_neg d1] at g5
        exact Or.inr ⟨by rw [g5]; exact d1, d2⟩
    · rintro z ⟨x', l, F, B, V, e1, e2, hl, hg, hd⟩
      dsimp only
      refine ok_eq (fires_end (wnd := wnd) (Nat.le_refl _) hp) ⟨_, rfl, ?_⟩
      rcases hd with ⟨d1, d2, n', hn', hn0, d3⟩ | ⟨d1, j, xj, hj, d2, d3⟩
      · refine ⟨x', itr_FU d2 (by omega) ?_, n', hn', d3, Or.inr ⟨hn0, d1⟩⟩
        dsimp only
        unfold f1_enough_s8
        rw [if_pos (nI_le (Nat.le_refl _) (by omega))]
      · exact ⟨xj, itr_FU d2 (by omega) (hstop j xj hj d3), 0, Nat.zero_le _, d3, Or.inl ⟨rfl, d1⟩⟩
  unfold f14_fires
  rw [en', bind_is]
  by_cases q : k0 = 0
  · obtain ⟨qq, eq, r, er, hr⟩ := key 0 (by rw [if_pos q])
    rw [if_pos (show nI k0 = 0 by rw [q]; rfl)]
    unfold f14_fires_j13
    refine ok_eq er ?_
    rw [eq, bind_is]
    exact ok_i hr
  · obtain ⟨qq, eq, r, er, hr⟩ := key (-1) (by rw [if_neg q])
    rw [if_neg (nI_ne0 (by omega) (by omega))]
    unfold f14_fires_j13
    refine ok_eq er ?_
    rw [eq, bind_is]
    exact ok_i hr
theorem enough_eq {M C R P : Nat} {g fuel burns : Nat → Int32} {men : Nat → Option Nat} {IM : Nat → Nat → Int32} {w : Nat → Int32} {bg : Int32} (hbg : bg = 0 ∨ bg = 1) (hY : YV M C R P g fuel burns men IM (layF bg w)) (a p : Int32) (y : Nat) (l1 l14 oa th : Int32) (x0 : Option Nat) (f v h b f' v' b' h' fw bw : Nat → Int32) :
    Ok (f1_enough a p y (g 304) (g 305) (g 314) l1 x0 f v h b fuel burns) (fun x => Ok (f14_enough a p th bg l14 oa w f' b' v' h' fw bw) (fun z => x.1 = z.1 ∧ z.2.1 = 0 ∧ z.2.2.1 = 1 ∧ z.2.2.2.2.2.1 = layF bg w)) := by
  have hY0 := hY
  obtain ⟨⟨-, hC, hR, -⟩, ⟨-, -, g4, w9, g5, w10, -⟩, -, ⟨g14, -⟩, -⟩ := hY0
  unfold f1_enough f14_enough
  rw [lay_ok hbg, bind_is, g4, g5, g14]
  dsimp only
  rcases isAim_eq w9 w10 hC hR a with ⟨e, e', ha⟩ | ⟨e, e'⟩
  rotate_left
  · rw [e, e', bind_is, bind_is, if_pos rfl, if_pos rfl]
    exact ok_i (ok_i ⟨rfl, rfl, rfl, rfl⟩)
  · rw [e, e', bind_is, bind_is, if_neg (by decide), if_neg (by decide)]
    rcases isIn_cc p (a := 1) (b := 60) (A := 1) (B := 60) rfl rfl (by decide) (by decide) with ⟨e, e', -⟩ | ⟨e, e', p, hp1, hp, rfl⟩
    · rw [e, e', bind_is, bind_is, if_pos rfl, if_pos rfl]
      exact ok_i (ok_i ⟨rfl, rfl, rfl, rfl⟩)
    · rw [e, e', bind_is, bind_is, if_neg (by decide), if_neg (by decide)]
      refine ok_b2 (S := fun (x : (Int32 × Int32 × (Option Nat) × (Nat → Int32) × (Nat → Int32) × (Nat → Int32) × (Nat → Int32)) ⊕ (Int32 × Int32 × (Option Nat) × (Nat → Int32) × (Nat → Int32) × (Nat → Int32) × (Nat → Int32))) (z : Int32 × Int32 × Int32 × (Nat → Int32) × (Nat → Int32) × (Nat → Int32) × (Nat → Int32) × (Nat → Int32) × (Nat → Int32) ⊕ Int32 × Int32 × Int32 × Int32 × Int32 × (Nat → Int32) × (Nat → Int32) × (Nat → Int32) × (Nat → Int32) × (Nat → Int32) × (Nat → Int32) × (Nat → Int32)) => (∃ x' z', x = .inl x' ∧ z = .inl z' ∧ x'.1 = z'.1) ∨ (∃ x' z', x = .inr x' ∧ z = .inr z' ∧ x'.1 = z'.1 ∧ z'.2.1 = 0 ∧ z'.2.2.1 = 1 ∧ z'.2.2.2.2.2.1 = layF bg w)) ?_ ?_
      · refine ok_lp2 (fun k (s : Int32 × Int32 × (Option Nat) × (Nat → Int32) × (Nat → Int32) × (Nat → Int32) × (Nat → Int32)) (t : Int32 × Int32 × Int32 × (Nat → Int32) × (Nat → Int32) × (Nat → Int32) × (Nat → Int32) × (Nat → Int32) × (Nat → Int32)) => ∃ i, i + k = 201 ∧ s.1 = nI i ∧ t.1 = nI i) (k := 201) (by decide) ⟨0, by decide, rfl, rfl⟩ ?_
        rintro k ⟨s1, s2⟩ ⟨t1, t2⟩ ⟨i, hi, e1, e2⟩
        dsimp only at e1 e2 ⊢
        subst e1 e2
        unfold f1_enough_s5 f14_enough_s6
        by_cases h200 : 200 < i
        · rw [if_pos (show (200 : Int32) < nI i from nI_lt (a := 200) h200 (by omega)), if_pos (show (200 : Int32) < nI i from nI_lt (a := 200) h200 (by omega))]
          exact ok_i (ok_i (Or.inr ⟨_, _, rfl, rfl, rfl, rfl, rfl, rfl⟩))
        · rw [if_neg (show ¬ (200 : Int32) < nI i from nI_nlt (show i ≤ 200 by omega) (by decide)), if_neg (show ¬ (200 : Int32) < nI i from nI_nlt (show i ≤ 200 by omega) (by decide))]
          obtain ⟨u, eu, z, ez, c0, c1, F, B, hg⟩ := light_eq hY s2.1 t2.1 s2.2.2.1 s2.2.2.2.1 s2.2.2.2.2.2 t2.2.2.1 t2.2.2.2.2.1 t2.2.2.2.1
          obtain ⟨r, er, q, eq, n, hn, g1, g2⟩ := enough_round (x := (u.1, u.2.1, u.2.2.1, s2.2.2.2.2.1, u.2.2.2)) (y := (z.1, t2.2.1, z.2.1, z.2.2.1, z.2.2.2, t2.2.2.2.2.2)) (t := i) (p := p) (a := a) hg c0 c1 w9 w10 rfl hC hR (by omega) hp ha
          rw [eu, bind_is, er, bind_is, ez, bind_is, eq, bind_is]
          unfold f1_enough_e8_0
          rw [g1, bind_is]
          rcases g2 with ⟨rfl, g2⟩ | ⟨g0, g2⟩
          · rw [if_pos (show nI 0 = 0 from rfl), if_neg g2]
            exact ok_i (ok_i (Or.inl ⟨_, _, rfl, rfl, rfl⟩))
          · rw [if_neg (nI_ne0 (by omega) (by omega)), if_pos g2, lt_is, lt_is, nI_1]
            exact ok_i (ok_i ⟨k - 1, by omega, i + 1, by omega, rfl, rfl⟩)
      · rintro x z (⟨x', z', rfl, rfl, hh⟩ | ⟨x', z', rfl, rfl, hh⟩)
        · exact ok_i (ok_i ⟨hh, rfl, rfl, rfl⟩)
        · exact ok_i (ok_i hh)
