/-! the plain law: what the night's team throws in a minute -/
set_option maxRecDepth 100000
theorem team_min {z y M C R P H D s bk m Wt : Nat} {K : gK} {I0 I : gI} {J : gJ} {X0 X : gX} {A0 A : gI} {B : gJ} {Q : gX} {w : Nat → Int32} (hY : YV M C R P (fun k => I0 k y) (A0 (y + 2)) (A0 (y + 3)) (Q (y + 1)) I0 w) (hTY : TY (fun k => I0 k y) w H D s bk) (hc : Chg z I0 X0 A0 I X A) (hIS : IS z K X0 Q) (hky : K y = some (.inl 3)) (hmen : ∀ (j m : Nat), (Q (y + 1)) j = some m → K m = some (.inl 12)) (hm : m < 60) {tm : Option Nat} (x8 : Int32 × Int32 × Int32 × Int32 × Int32 × Int32 × Int32 × Int32 × Int32 × Int32 × Int32 × (Nat → Int32) × (Nat → Int32) × (Nat → Int32) × (Nat → Int32) × (Nat → Int32) × (Nat → Int32) × (Nat → Int32) × (Nat → Int32) × (Nat → Int32)) {v : Int32 × Int32 × Int32 × Int32 × Int32 × Int32 × Int32 × Int32 × (Nat → Int32) × (Nat → Int32) × (Nat → Int32) × (Nat → Int32) × (Nat → Int32) × (Nat → Int32) × (Nat → Int32) × (Nat → Int32)} (hT : TeamR z y M bk m tm I X A Wt x8.2.2.1 x8.2.2.2.1 x8.2.2.2.2.2.2.2.2.2.2.2.1 v) (aim k : Int32) :
    ∃ (t W' : Nat) (I1 : gI) (A1 : gI) (v' : Int32 × Int32 × Int32 × Int32 × Int32 × Int32 × Int32 × Int32 × (Nat → Int32) × (Nat → Int32) × (Nat → Int32) × (Nat → Int32) × (Nat → Int32) × (Nat → Int32) × (Nat → Int32) × (Nat → Int32)), t ≤ 9999 ∧ Chg z I0 X0 A0 I1 X A1 ∧ whl (fun (s10 : Int32 × Int32 × Int32 × Int32 × Int32 × Int32 × Int32 × Int32 × Int32 × (Nat → Int32) × (Nat → Int32) × (Nat → Int32) × (Nat → Int32) × (Nat → Int32) × (Nat → Int32) × (Nat → Int32) × (Nat → Int32)) => f14_spend_s10 ((1 : Int32), w) x8 s10.1 s10.2.1 s10.2.2.1 s10.2.2.2.1 s10.2.2.2.2.1 s10.2.2.2.2.2.1 s10.2.2.2.2.2.2.1 s10.2.2.2.2.2.2.2.1 s10.2.2.2.2.2.2.2.2.1 s10.2.2.2.2.2.2.2.2.2.1 s10.2.2.2.2.2.2.2.2.2.2.1 s10.2.2.2.2.2.2.2.2.2.2.2.1 s10.2.2.2.2.2.2.2.2.2.2.2.2.1 s10.2.2.2.2.2.2.2.2.2.2.2.2.2.1 s10.2.2.2.2.2.2.2.2.2.2.2.2.2.2.1 s10.2.2.2.2.2.2.2.2.2.2.2.2.2.2.2.1 s10.2.2.2.2.2.2.2.2.2.2.2.2.2.2.2.2) FU ((0 : Int32), v) = some v' ∧ v'.2.2.2.2.1 - v.2.2.2.2.1 = nI t ∧ TeamR z y M bk (m + 1) tm I1 X A1 W' x8.2.2.1 x8.2.2.2.1 x8.2.2.2.2.2.2.2.2.2.2.2.1 v' ∧ (∀ a, ¬ (z + 38 ≤ a ∧ a < z + 70) → A1 a = A a) ∧ (∀ f a, a ≠ z + 38 → a ≠ z + 65 → I1 f a = I f a) ∧
      w1_nights_e25_0 z K (nI Wt) (nI m) (tm, aim, k, I, J, X, A, B, Q) = w1_nights_j240 z K (nI m) (tm, aim, k, I, J, X, A, B, Q) I1 J X B Q (a_up A1 (z + 119) (upd (A1 (z + 119)) m (nI t))) (nI W') := by
  have hISx := hc.IS hIS
  have hS0 := hISx.1.1
  have hx := hISx.o
  obtain ⟨-, -, -, -, -, -, ⟨hS38, hX14⟩, ⟨hS65, hX16⟩, hG2, hyards, -⟩ := hx
  have hsy := hyards y hky
  obtain ⟨x46, l46⟩ := hS0.len 19 rfl
  have h60 : inb (nI m) 60 := inb_nI hm (by decide)
  have hcm : (nI m).toNatClampNeg = m := nI_clamp (by omega)
  obtain ⟨hW, hv1, hT⟩ := hT
  -- the model's loop is the loop of the teams
  have hloop : ∀ (team : Nat → Int32) (many kind : Int32), x8.2.2.2.2.2.2.2.2.2.2.2.1 = team → x8.2.2.1 = many → x8.2.2.2.1 = kind → (fun (s10 : Int32 × Int32 × Int32 × Int32 × Int32 × Int32 × Int32 × Int32 × Int32 × (Nat → Int32) × (Nat → Int32) × (Nat → Int32) × (Nat → Int32) × (Nat → Int32) × (Nat → Int32) × (Nat → Int32) × (Nat → Int32)) => f14_spend_s10 ((1 : Int32), w) x8 s10.1 s10.2.1 s10.2.2.1 s10.2.2.2.1 s10.2.2.2.2.1 s10.2.2.2.2.2.1 s10.2.2.2.2.2.2.1 s10.2.2.2.2.2.2.2.1 s10.2.2.2.2.2.2.2.2.1 s10.2.2.2.2.2.2.2.2.2.1 s10.2.2.2.2.2.2.2.2.2.2.1 s10.2.2.2.2.2.2.2.2.2.2.2.1 s10.2.2.2.2.2.2.2.2.2.2.2.2.1 s10.2.2.2.2.2.2.2.2.2.2.2.2.2.1 s10.2.2.2.2.2.2.2.2.2.2.2.2.2.2.1 s10.2.2.2.2.2.2.2.2.2.2.2.2.2.2.2.1 s10.2.2.2.2.2.2.2.2.2.2.2.2.2.2.2.2) = (fun (s2 : Int32 × Int32 × Int32 × Int32 × Int32 × Int32 × Int32 × Int32 × Int32 × (Nat → Int32) × (Nat → Int32) × (Nat → Int32) × (Nat → Int32) × (Nat → Int32) × (Nat → Int32) × (Nat → Int32) × (Nat → Int32)) => f14_throwsIn_s2 (nI 60) w team (many, kind, 0, 0, 0, 0, 0, 0, 0, team, team, team, team, team, team) s2.1 s2.2.1 s2.2.2.1 s2.2.2.2.1 s2.2.2.2.2.1 s2.2.2.2.2.2.1 s2.2.2.2.2.2.2.1 s2.2.2.2.2.2.2.2.1 s2.2.2.2.2.2.2.2.2.1 s2.2.2.2.2.2.2.2.2.2.1 s2.2.2.2.2.2.2.2.2.2.2.1 s2.2.2.2.2.2.2.2.2.2.2.2.1 s2.2.2.2.2.2.2.2.2.2.2.2.2.1 s2.2.2.2.2.2.2.2.2.2.2.2.2.2.1 s2.2.2.2.2.2.2.2.2.2.2.2.2.2.2.1 s2.2.2.2.2.2.2.2.2.2.2.2.2.2.2.2.1 s2.2.2.2.2.2.2.2.2.2.2.2.2.2.2.2.2) := by
    rintro team many kind rfl rfl rfl
    rfl
  rcases hT with ⟨rfl, hk0⟩ | ⟨rfl, hk1, N, PP, W1, t, b1, b2, b3, b4, b5, b6, b7, b8, b9⟩ | ⟨rfl, hk2, N, W1, t, b1, b2, b3, b4, b5, b6, b7⟩
  · -- nobody
    have hl : Ok (whl (fun (s10 : Int32 × Int32 × Int32 × Int32 × Int32 × Int32 × Int32 × Int32 × Int32 × (Nat → Int32) × (Nat → Int32) × (Nat → Int32) × (Nat → Int32) × (Nat → Int32) × (Nat → Int32) × (Nat → Int32) × (Nat → Int32)) => f14_spend_s10 ((1 : Int32), w) x8 s10.1 s10.2.1 s10.2.2.1 s10.2.2.2.1 s10.2.2.2.2.1 s10.2.2.2.2.2.1 s10.2.2.2.2.2.2.1 s10.2.2.2.2.2.2.2.1 s10.2.2.2.2.2.2.2.2.1 s10.2.2.2.2.2.2.2.2.2.1 s10.2.2.2.2.2.2.2.2.2.2.1 s10.2.2.2.2.2.2.2.2.2.2.2.1 s10.2.2.2.2.2.2.2.2.2.2.2.2.1 s10.2.2.2.2.2.2.2.2.2.2.2.2.2.1 s10.2.2.2.2.2.2.2.2.2.2.2.2.2.2.1 s10.2.2.2.2.2.2.2.2.2.2.2.2.2.2.2.1 s10.2.2.2.2.2.2.2.2.2.2.2.2.2.2.2.2) FU ((0 : Int32), v)) (fun v' => v'.1 = v.1 ∧ v'.2.2.2.2.1 = v.2.2.2.2.1) := by
      refine for_ok (fun i (x : Int32 × Int32 × Int32 × Int32 × Int32 × Int32 × Int32 × Int32 × (Nat → Int32) × (Nat → Int32) × (Nat → Int32) × (Nat → Int32) × (Nat → Int32) × (Nat → Int32) × (Nat → Int32) × (Nat → Int32)) => (nI i, x)) (fun i x => x.1 = v.1 ∧ x.2.2.2.2.1 = v.2.2.2.2.1) 60 (by decide) ⟨rfl, rfl⟩ ?_ ?_
      · intro i x hi hx
        dsimp only
        unfold f14_spend_s10
        rw [if_neg (show ¬ (60 : Int32) ≤ nI i from nI_ge (b := 60) hi (by decide)), hk0]
        refine ok_e (x := (x.1, x.2.1 + 1, x.2.2)) nobody_tick ?_
        rw [lt_is, nI_1]
        exact ok_i ⟨_, rfl, hx⟩
      · intro x hx
        dsimp only
        unfold f14_spend_s10
        rw [if_pos (show (60 : Int32) ≤ nI 60 by decide)]
        exact ok_i ⟨_, rfl, hx⟩
    obtain ⟨v', ev, e1, e5⟩ := hl
    refine ⟨0, Wt, I, A, v', by omega, hc, ev, ?_, ⟨hW, e1.trans hv1, Or.inl ⟨rfl, hk0⟩⟩, fun _ _ => rfl, fun _ _ _ _ => rfl, ?_⟩
    · rw [e5, Int32.sub_self]
      rfl
    · unfold w1_nights_e25_0 w1_nights_j227
      simp only [lt_is, if_true, x46, bind_is, l46, gdp_t h60, hcm]
      rfl
  · -- the night's row
    obtain ⟨Wr, T, hWr, hTr, -, q1, q2, q3, q4, hG, -⟩ := b9.base
    have hrd : ∀ f, InvF.contains f = true → I f = I0 f := fun f hf => hc.rd hf
    obtain ⟨r, er, v', ev, hG', hr⟩ := goes_row (n := 60) hY hTY b1 b2 b3 b8 (show t + 60 ≤ 20000 by omega) (x8.2.2.1, x8.2.2.2.1, 0, 0, 0, 0, 0, 0, 0, x8.2.2.2.2.2.2.2.2.2.2.2.1, x8.2.2.2.2.2.2.2.2.2.2.2.1, x8.2.2.2.2.2.2.2.2.2.2.2.1, x8.2.2.2.2.2.2.2.2.2.2.2.1, x8.2.2.2.2.2.2.2.2.2.2.2.1, x8.2.2.2.2.2.2.2.2.2.2.2.1) b5 hk1 hG
    obtain ⟨Wr', T', hWr', hTr', hTT, p1, p2, p3, p4, -, hG0⟩ := hG'.base
    have hK38 : K (z + 38) = some (.inl 7) := hS38.1
    have hg2' : ∀ j, j < 12 → K (z + 38 + 9 + j) = some (.inr (0, 30)) ∧ Q (z + 38 + 8) j = some (z + 38 + 9 + j) := hG2
    have hns : ¬ (some (z + 38) : Option Nat) = none := fun h => nomatch h
    obtain ⟨I1, hI1⟩ : ∃ I1, I1 = ov I [(703, (z + 38), r.2.1), (704, (z + 38), r.2.2.1), (705, (z + 38), r.2.2.2.1), (714, (z + 38), r.2.2.2.2.1), (715, (z + 38), r.2.2.2.2.2.1), (716, (z + 38), r.2.2.2.2.2.2.1), (717, (z + 38), r.2.2.2.2.2.2.2.1), (718, (z + 38), r.2.2.2.2.2.2.2.2.1)] := ⟨_, rfl⟩
    obtain ⟨A1, hA1⟩ : ∃ A1, A1 = ova (ovg A (z + 38 + 9) 12 r.2.2.2.2.2.2.2.2.2.2.2.2.2.2.2.2) [((z + 38 + 1), (A (z + 38 + 1))), ((z + 38 + 2), r.2.2.2.2.2.2.2.2.2.1), ((z + 38 + 3), r.2.2.2.2.2.2.2.2.2.2.1), ((z + 38 + 4), r.2.2.2.2.2.2.2.2.2.2.2.1), ((z + 38 + 5), r.2.2.2.2.2.2.2.2.2.2.2.2.1), ((z + 38 + 6), r.2.2.2.2.2.2.2.2.2.2.2.2.2.1), ((z + 38 + 7), r.2.2.2.2.2.2.2.2.2.2.2.2.2.2.1), ((z + 38 + 21), r.2.2.2.2.2.2.2.2.2.2.2.2.2.2.2.1)] := ⟨_, rfl⟩
    have hcI : Chg z I X A I1 X A1 := by
      subst hI1 hA1
      refine ((Chg.refl.putI (by simp only [List.forall_mem_cons]; (repeat' apply And.intro); all_goals first | exact fun _ h => absurd h (List.not_mem_nil) | exact (by unfold Lo; omega) | exact Or.inl (by unfold Sc; omega) | exact Or.inl (by unfold ScM; omega) | exact Or.inr rfl | exact Or.inr trivial | exact Or.inl trivial | exact Or.inr (Or.inl trivial) | exact Or.inr (Or.inr ⟨trivial, by omega⟩) | omega) (by rfl)).grid (k := 47) (by decide)).putA ?_
      simp only [List.forall_mem_cons]
      refine ⟨Or.inr ?_, ?_⟩
      · unfold ovg
        exact (if_neg (by omega)).symm
      · (repeat' apply And.intro); all_goals first | exact fun _ h => absurd h (List.not_mem_nil) | exact Or.inl (by unfold Sc; omega)
    have eA1 : ∀ a, ¬ (z + 38 ≤ a ∧ a < z + 70) → A1 a = A a := fun a ha => by
      subst hA1
      refine (ova_fr (fun p hp e => ?_)).trans ?_
      · simp only [List.mem_cons, List.not_mem_nil, or_false] at hp
        exact absurd (show z + 38 ≤ a ∧ a < z + 70 by rcases hp with rfl | rfl | rfl | rfl | rfl | rfl | rfl | rfl <;> (dsimp only at e; omega)) ha
      · unfold ovg
        exact if_neg (by omega)
    have eI1 : ∀ f a, a ≠ z + 38 → I1 f a = I f a := fun f a h1 => by
      subst hI1
      refine ov_fr (fun p hp e => absurd ?_ h1)
      simp only [List.mem_cons, List.not_mem_nil, or_false] at hp
      rcases hp with rfl | rfl | rfl | rfl | rfl | rfl | rfl | rfl <;> (dsimp only at e; omega)
    have egr : ∀ kk, kk < 12 → A1 (z + 47 + kk) = r.2.2.2.2.2.2.2.2.2.2.2.2.2.2.2.2 kk := fun kk hk => by
      subst hA1
      refine (ova_fr (fun p hp e => ?_)).trans ?_
      · exfalso
        simp only [List.mem_cons, List.not_mem_nil, or_false] at hp
        rcases hp with rfl | rfl | rfl | rfl | rfl | rfl | rfl | rfl <;> (dsimp only at e; omega)
      · unfold ovg
        rw [if_pos (by omega), show z + 47 + kk - (z + 38 + 9) = kk by omega]
    have e39 : A1 (z + 39) = A (z + 39) := by
      rw [hA1]
      simp [ova, a_up]
    have hm6 : 60 * m + 60 = 60 * (m + 1) := by omega
    refine ⟨T' - T, Wr', I1, A1, v', by omega, hc.trans hcI, ?_, ?_, ⟨hWr', p2, Or.inr (Or.inl ⟨rfl, hk1, N, PP, W1, t + 60, b1, b2, b3, by omega, b5, b6, ?_, ?_, ?_⟩)⟩, eA1, fun f a h1 _ => eI1 f a h1, ?_⟩
    · rw [hloop _ _ _ rfl rfl rfl]
      exact ev
    · rw [p4, q4, pk_sub hTT]
    · rw [← b7, hI1]
      simp [ov, i_up]
    · rw [e39]
      exact b8
    · have hv : (I1 703 (z + 38), I1 704 (z + 38), I1 705 (z + 38), I1 714 (z + 38), I1 715 (z + 38), I1 716 (z + 38), I1 717 (z + 38), I1 718 (z + 38), A1 (z + 40), A1 (z + 41), A1 (z + 42), A1 (z + 43), A1 (z + 44), A1 (z + 45), A1 (z + 59)) = (r.2.1, r.2.2.1, r.2.2.2.1, r.2.2.2.2.1, r.2.2.2.2.2.1, r.2.2.2.2.2.2.1, r.2.2.2.2.2.2.2.1, r.2.2.2.2.2.2.2.2.1, r.2.2.2.2.2.2.2.2.2.1, r.2.2.2.2.2.2.2.2.2.2.1, r.2.2.2.2.2.2.2.2.2.2.2.1, r.2.2.2.2.2.2.2.2.2.2.2.2.1, r.2.2.2.2.2.2.2.2.2.2.2.2.2.1, r.2.2.2.2.2.2.2.2.2.2.2.2.2.2.1, r.2.2.2.2.2.2.2.2.2.2.2.2.2.2.2.1) := by
        rw [hI1, hA1]
        simp [ov, i_up, ova, a_up]
      simp only [Prod.mk.injEq] at hv
      obtain ⟨g1, g2, g3, g4, g5, g6, g7, g8, g9, g10, g11, g12, g13, g14, g15⟩ := hv
      rw [g1, g2, g3, g4, g5, g6, g7, g8, g9, g10, g11, g12, g13, g14, g15]
      exact RowG.pa hG0 (fun kk hk => egr kk (by omega))
    · have ewr : r.1 = nI (T' - T) := by rw [hr, p3, q3, pk_sub hTT]
      unfold w1_nights_e25_0 w1_nights_j227
      simp only [lt_is]
      rw [if_neg hns, bind_is, if_pos hK38, b6, bind_is, gdp_t hS38, gdp_t hsy, gdp_t hg2', gdp_t hmen]
      have er' : f9_goesR (60 : Int32) (I 306 y) (I 308 y) (I 309 y) (I 311 y) (I 312 y) (I 313 y) (I 702 (z + 38)) (I 703 (z + 38)) (I 704 (z + 38)) (I 705 (z + 38)) (I 714 (z + 38)) (I 715 (z + 38)) (I 716 (z + 38)) (I 717 (z + 38)) (I 718 (z + 38)) (A (z + 38 + 1)) (A (z + 38 + 2)) (A (z + 38 + 3)) (A (z + 38 + 4)) (A (z + 38 + 5)) (A (z + 38 + 6)) (A (z + 38 + 7)) (A (z + 38 + 21)) (Q (y + 1)) (I 1201) (I 1203) (fun j => A (z + 38 + 9 + j)) = some r := by
        rw [hrd 306 (by decide), hrd 308 (by decide), hrd 309 (by decide), hrd 311 (by decide), hrd 312 (by decide), hrd 313 (by decide), hrd 1201 (by decide), hrd 1203 (by decide), b7]
        exact er
      rw [er', bind_is, ← hI1, ← hA1, x46, bind_is, l46, bind_is, gdp_t h60, if_neg hns, bind_is, if_pos hK38, hcm, ewr]
      have e703 : I1 703 (z + 38) = nI Wr' := by
        rw [← p1, hI1]
        simp [ov, i_up]
      rw [e703]
  · -- those who run in it
    obtain ⟨Wr, T, hWr, hTr, -, q1, q2, q3, q4, hG, -⟩ := b7.base
    have hrd : ∀ f, InvF.contains f = true → I f = I0 f := fun f hf => hc.rd hf
    obtain ⟨r, er, v', ev, hG', hr⟩ := goes_run (n := 60) hY hTY b1 b6 (show t + 60 ≤ 20000 by omega) (x8.2.2.1, x8.2.2.2.1, 0, 0, 0, 0, 0, 0, 0, x8.2.2.2.2.2.2.2.2.2.2.2.1, x8.2.2.2.2.2.2.2.2.2.2.2.1, x8.2.2.2.2.2.2.2.2.2.2.2.1, x8.2.2.2.2.2.2.2.2.2.2.2.1, x8.2.2.2.2.2.2.2.2.2.2.2.1, x8.2.2.2.2.2.2.2.2.2.2.2.1) b3 hk2 hG
    obtain ⟨Wr', T', hWr', hTr', hTT, p1, p2, p3, p4, -, hG0⟩ := hG'.base
    have hK65 : K (z + 65) = some (.inl 8) := hS65.1
    have hK7 : ¬ K (z + 65) = some (.inl 7) := by
      rw [hK65]
      decide
    have hns : ¬ (some (z + 65) : Option Nat) = none := fun h => nomatch h
    obtain ⟨I1, hI1⟩ : ∃ I1, I1 = ov I [(803, (z + 65), r.2.1), (804, (z + 65), r.2.2.1), (805, (z + 65), r.2.2.2.1), (809, (z + 65), r.2.2.2.2.1)] := ⟨_, rfl⟩
    obtain ⟨A1, hA1⟩ : ∃ A1, A1 = ova A [((z + 65 + 1), (A (z + 65 + 1))), ((z + 65 + 2), r.2.2.2.2.2.1), ((z + 65 + 3), r.2.2.2.2.2.2.1), ((z + 65 + 4), r.2.2.2.2.2.2.2)] := ⟨_, rfl⟩
    have hcI : Chg z I X A I1 X A1 := by
      subst hI1 hA1
      exact (Chg.refl.putI (by simp only [List.forall_mem_cons]; (repeat' apply And.intro); all_goals first | exact fun _ h => absurd h (List.not_mem_nil) | exact (by unfold Lo; omega) | exact Or.inl (by unfold Sc; omega) | exact Or.inl (by unfold ScM; omega) | exact Or.inr rfl | exact Or.inr trivial | exact Or.inl trivial | exact Or.inr (Or.inl trivial) | exact Or.inr (Or.inr ⟨trivial, by omega⟩) | omega) (by rfl)).putA (by simp only [List.forall_mem_cons]; (repeat' apply And.intro); all_goals first | exact fun _ h => absurd h (List.not_mem_nil) | exact (by unfold Lo; omega) | exact Or.inl (by unfold Sc; omega) | exact Or.inl (by unfold ScM; omega) | exact Or.inr rfl | exact Or.inr trivial | exact Or.inl trivial | exact Or.inr (Or.inl trivial) | exact Or.inr (Or.inr ⟨trivial, by omega⟩) | omega)
    have eA1 : ∀ a, ¬ (z + 38 ≤ a ∧ a < z + 70) → A1 a = A a := fun a ha => by
      subst hA1
      refine (ova_fr (fun p hp e => ?_))
      simp only [List.mem_cons, List.not_mem_nil, or_false] at hp
      exact absurd (show z + 38 ≤ a ∧ a < z + 70 by rcases hp with rfl | rfl | rfl | rfl <;> (dsimp only at e; omega)) ha
    have eI1 : ∀ f a, a ≠ z + 65 → I1 f a = I f a := fun f a h1 => by
      subst hI1
      refine ov_fr (fun p hp e => absurd ?_ h1)
      simp only [List.mem_cons, List.not_mem_nil, or_false] at hp
      rcases hp with rfl | rfl | rfl | rfl <;> (dsimp only at e; omega)
    have e66 : A1 (z + 66) = A (z + 66) := by
      rw [hA1]
      simp [ova, a_up]
    refine ⟨T' - T, Wr', I1, A1, v', by omega, hc.trans hcI, ?_, ?_, ⟨hWr', p2, Or.inr (Or.inr ⟨rfl, hk2, N, W1, t + 60, b1, by omega, b3, b4, ?_, ?_, ?_⟩)⟩, eA1, fun f a _ h1 => eI1 f a h1, ?_⟩
    · rw [hloop _ _ _ rfl rfl rfl]
      exact ev
    · rw [p4, q4, pk_sub hTT]
    · rw [← b5, hI1]
      simp [ov, i_up]
    · rw [e66]
      exact b6
    · have hv : (I1 803 (z + 65), I1 804 (z + 65), I1 805 (z + 65), I1 809 (z + 65), A1 (z + 67), A1 (z + 68), A1 (z + 69)) = r.2 := by
        rw [hI1, hA1]
        simp [ov, i_up, ova, a_up]
      rw [hv]
      exact hG0
    · have ewr : r.1 = nI (T' - T) := by rw [hr, p3, q3, pk_sub hTT]
      unfold w1_nights_e25_0 w1_nights_j227
      simp only [lt_is]
      rw [if_neg hns, bind_is, if_neg hK7, gdp_t hK65, b4, bind_is, gdp_t hS65, gdp_t hsy, gdp_t hmen]
      have er' : f9_goesN (60 : Int32) (I 306 y) (I 308 y) (I 309 y) (I 802 (z + 65)) (I 803 (z + 65)) (I 804 (z + 65)) (I 805 (z + 65)) (I 809 (z + 65)) (A (z + 65 + 1)) (A (z + 65 + 2)) (A (z + 65 + 3)) (A (z + 65 + 4)) (Q (y + 1)) (I 1202) = some r := by
        rw [hrd 306 (by decide), hrd 308 (by decide), hrd 309 (by decide), hrd 1202 (by decide), b5]
        exact er
      rw [er', bind_is, ← hI1, ← hA1, x46, bind_is, l46, bind_is, gdp_t h60, if_neg hns, bind_is, if_neg hK7, gdp_t hK65, hcm, ewr]
      have e803 : I1 803 (z + 65) = nI Wr' := by
        rw [← p1, hI1]
        simp [ov, i_up]
      rw [e803]
