/-! the plain law: cost -/
set_option maxRecDepth 100000
theorem cost_ask {M n : Nat} {b : Nat → Nat} {t1 t14 w asked team : Nat → Int32} {am bg : Int32} (hT : TP b t1 t14) (hn : n ≤ 740) (hM : M ≤ 12) (w0 : w 0 = nI M) (h2 : 2 ≤ n) (h12 : n ≤ 12) :
    Ok (f1_areAsked (nI 2) (nI 12) (nI n) am (nI M) t1 asked) (fun x => Ok (whl (fun (s10 : Int32 × Int32 × (Nat → Int32)) => f14_cost_s10 (nI n) t14 (bg, w) s10.1 s10.2.1 s10.2.2) FU ((0 : Int32), (0 : Int32), team)) (fun y => (x.1 = 0 ∧ ∃ t, y = .inr t) ∨ (x.1 = 1 ∧ x.2.1 = nI n ∧ ∃ t, y = .inl t ∧ Asked M n x.2.2 t))) := by
  unfold f1_areAsked
  rcases isIn_cc (nI n) (a := 2) (b := 12) rfl rfl (by omega) (by omega) with ⟨e, e', hno⟩ | ⟨e, e', j, hj1, hj2, hj3⟩
  · exact absurd ⟨h2, h12⟩ (hno n rfl (by omega))
  · rw [e, bind_is, if_neg (by decide)]
    have hb : ∀ o : Option (Int32 × Int32 × (Nat → Int32)), (o.bind fun r => f1_areAsked_e3_0 r) = o := fun o => by cases o <;> rfl
    rw [hb]
    refine ok_fu2 (fun k (s : Int32 × (Nat → Int32)) (t : Int32 × Int32 × (Nat → Int32)) => ∃ i S : Nat, i + k = n ∧ s.1 = nI i ∧ t.1 = nI S ∧ t.2.1 = nI i ∧ AskI M i S b s.2 t.2.2) (k := n) (by omega) ⟨0, 0, by omega, rfl, rfl, rfl, by decide, fun k h => absurd h (Nat.not_lt_zero _), fun v _ => ⟨fun h => by rw [Nat.zero_testBit] at h; exact absurd h (by decide), fun ⟨k, hk, _⟩ => absurd hk (Nat.not_lt_zero _)⟩, fun j k _ h => absurd h (Nat.not_lt_zero _)⟩ ?_
    rintro k ⟨s1, s2⟩ ⟨t1', t2, t3⟩ ⟨i, S, hik, e1, e2, e3, hS, hA, hB, hD⟩
    dsimp only at e1 e2 e3 hA hB hD ⊢
    subst e1 e2 e3
    unfold f1_areAsked_s3 f14_cost_s10
    dsimp only
    by_cases hni : n ≤ i
    · rw [if_pos (nI_le hni (by omega)), if_pos (nI_le hni (by omega))]
      have hin : i = n := by omega
      subst hin
      exact ok_i (ok_i (Or.inr ⟨rfl, rfl, _, rfl, b, hA, hD⟩))
    · obtain ⟨o1, o2, o3⟩ := one_is hT (show i < 740 by omega)
      have hi12 : i < 12 := by omega
      rw [if_neg (nI_ge (show i < n by omega) (by omega)), if_neg (nI_ge (show i < n by omega) (by omega)), o1, bind_is, gd_t (inb_nI hi12 (by decide)), lt_is, gd_t (inb_nI hi12 (by decide)), lt_is, gd_t (inb_nI (show i < 740 by omega) (by decide)), lt_is]
      simp (disch := omega) only [nI_clamp]
      rw [pk_us, isMan_is hM o3, bind_is, men_is, bind_is, w0, o2]
      by_cases hbM : b i < M
      · rw [if_pos hbM, if_neg (by decide), if_neg (nI_ge hbM (by omega)), gd_t (inb_nI (show i < 740 by omega) (by decide)), lt_is, has_is (by omega) (by omega), bind_is]
        have hu : ∀ k, k ≤ i → b k < 256 ∧ upd s2 i (nI (b i)) k = nI (b k) := by
          intro k hk
          by_cases q : k = i
          · subst q
            exact ⟨o3, pk_us⟩
          · rw [pk_un q]
            have := hA k (by omega)
            exact ⟨by omega, this.2.1⟩
        rcases ask_in (p3 := nI n) hi12 hu with ⟨ew, hne⟩ | ⟨ew, q, hq, hqe⟩
        · have hbit : ¬ S.testBit (b i) = true := fun h => by
            obtain ⟨k, hk, e⟩ := (hB (b i) (by omega)).mp h
            exact hne k hk e
          rw [ew, bind_is, if_neg hbit, if_pos rfl]
          rw [gd_t (inb_nI (show i < 740 by omega) (by decide)), lt_is, lt_is, lt_is, gd_t (inb_nI (show i < 740 by omega) (by decide)), lt_is, gd_t (inb_nI hi12 (by decide)), lt_is, lt_is, put_is (show b i < 31 by omega), nI_1]
          show Ok (f1_areAsked_e12_0 (nI i) (upd s2 i (nI (b i))) ()) _
          unfold f1_areAsked_e12_0
          rw [lt_is, nI_1]
          refine ok_i (ok_i ⟨k - 1, by omega, i + 1, S ||| 2 ^ b i, by omega, rfl, rfl, rfl, or_lt hS (by omega), fun k hk => ?_, fun v hv => ?_, fun j k hj hk => ?_⟩)
          · dsimp only
            by_cases q : k = i
            · subst q
              rw [pk_us, pk_us]
              exact ⟨hbM, rfl, rfl⟩
            · rw [pk_un q, pk_un q]
              exact hA k (by omega)
          · rw [Nat.testBit_or, Nat.testBit_two_pow, Bool.or_eq_true, hB v hv, decide_eq_true_eq]
            constructor
            · rintro (⟨k, hk, e⟩ | e)
              · exact ⟨k, by omega, e⟩
              · exact ⟨i, by omega, e⟩
            · rintro ⟨k, hk, e⟩
              by_cases q : k = i
              · subst q
                exact Or.inr e
              · exact Or.inl ⟨k, by omega, e⟩
          · by_cases q : k = i
            · subst q
              exact hne j hj
            · exact hD j k hj (by omega)
        · have hbit : S.testBit (b i) = true := (hB (b i) (by omega)).mpr ⟨q, hq, hqe⟩
          rw [ew, bind_is, if_pos hbit, if_neg (show ¬ (1 : Int32) = 0 by decide)]
          exact ok_i (ok_i (Or.inl ⟨rfl, _, rfl⟩))
      · rw [if_neg hbM, if_pos rfl, if_pos (nI_le (show M ≤ b i by omega) (by omega))]
        exact ok_i (ok_i (Or.inl ⟨rfl, _, rfl⟩))
