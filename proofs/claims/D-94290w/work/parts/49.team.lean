/-! the plain law: a team begun; who is asked -/
set_option maxRecDepth 100000
theorem nI_or (a b : Nat) : nI a ||| nI b = nI (a ||| b) := Int32.toBitVec_inj.1 (BitVec.ofNat_or).symm
theorem smod_is (v : Nat) (h : v < 32) : ((nI v).toBitVec.smod 32).toNat = v := by
  have : ∀ v : Fin 32, ((nI v.val).toBitVec.smod 32).toNat = v.val := by decide +kernel
  exact this ⟨v, h⟩
theorem and31 (v : Nat) (h : v < 32) : nI v &&& 31 = nI v := by
  rw [pk_andN (by omega) 5 rfl, Nat.mod_eq_of_lt h]
theorem has_is {S v : Nat} (hS : S < 2 ^ 31) (hv : v < 31) : f14_has (nI S) (nI v) = some (if S.testBit v then 1 else 0) := by
  unfold f14_has
  rw [lt_is, lt_is, and31 v (by omega), pk_shrN hS (nI v) v (smod_is v (by omega)), pk_andN (by have := Nat.div_le_self S (2 ^ v); omega) 1 rfl, Nat.testBit_eq_decide_div_mod_eq]
  by_cases h : S / 2 ^ v % 2 = 1
  · have e : S / 2 ^ v % 2 ^ 1 = 1 := h
    rw [e, if_pos (by decide)]
    rfl
  · have e : S / 2 ^ v % 2 ^ 1 = 0 := by omega
    rw [e, if_neg (by decide)]
    rfl
theorem put_is {S v : Nat} (hv : v < 31) : nI S ||| ((1 : Int32) <<< (nI v &&& 31)) = nI (S ||| 2 ^ v) := by
  rw [and31 v (by omega), show (1 : Int32) = nI 1 from rfl, pk_shlN (nI v) v (smod_is v (by omega)) (by rw [Nat.one_mul]; exact Nat.lt_of_le_of_lt (Nat.pow_le_pow_right (by decide) (show v ≤ 30 by omega)) (by decide)), Nat.one_mul, nI_or]
/-- a tape's byte -/
theorem one_is {b : Nat → Nat} {t1 t14 : Nat → Int32} (h : TP b t1 t14) {k : Nat} (hk : k < 740) : f1_one (nI k) t1 = some (nI (b k)) ∧ t14 k = nI (b k) ∧ b k < 256 := by
  obtain ⟨h1, h2, h3⟩ := h k hk
  refine ⟨?_, h2, h1⟩
  unfold f1_one
  rw [gd_t (inb_nI hk (by decide)), lt_is, lt_is, nI_clamp (by omega), h3]
  have : ∀ v : Fin 256, ((nI v.val).toInt8.toInt32) &&& 255 = nI v.val := by decide +kernel
  rw [this ⟨b k, h1⟩]
theorem isMan_is {M v : Nat} (hM : M ≤ 12) (hv : v < 256) : f1_isMan (nI v) (nI M) = some (if v < M then 1 else 0) := by
  unfold f1_isMan
  rw [lt_is]
  rcases isIn_cnt (nI v) (C := M) (by omega) with ⟨e, c, hc, e2⟩ | ⟨e, -, hno⟩
  · have := (nI_eq (by omega) (by omega)).mp e2
    subst this
    rw [e, bind_is, gd_t (by decide), if_pos hc]
  · rw [e, bind_is, gd_t (by decide), if_neg (fun q => hno v q rfl)]
/-- those asked, so far -/
def AskI (M i S : Nat) (b : Nat → Nat) (asked team : Nat → Int32) : Prop := S < 2 ^ 12 ∧ (∀ k, k < i → b k < M ∧ asked k = nI (b k) ∧ team k = nI (b k)) ∧ (∀ v, v < 12 → (S.testBit v = true ↔ ∃ k, k < i ∧ b k = v)) ∧ (∀ j k, j < k → k < i → ¬ b j = b k)
def Asked (M n : Nat) (asked team : Nat → Int32) : Prop := ∃ b : Nat → Nat, (∀ k, k < n → b k < M ∧ asked k = nI (b k) ∧ team k = nI (b k)) ∧ (∀ j k, j < k → k < n → ¬ b j = b k)
theorem ask_in {i : Nat} {b : Nat → Nat} {u : Nat → Int32} {p3 : Int32} (hi : i < 12) (hb : ∀ k, k ≤ i → b k < 256 ∧ u k = nI (b k)) : (whl (fun (s12 : Int32) => f1_areAsked_s12 p3 (nI i) u s12) FU (0 : Int32) = some (.inl ()) ∧ ∀ k, k < i → ¬ b k = b i) ∨ (whl (fun (s12 : Int32) => f1_areAsked_s12 p3 (nI i) u s12) FU (0 : Int32) = some (.inr ((0 : Int32), p3, u)) ∧ ∃ k, k < i ∧ b k = b i) := by
  have h : Ok (whl (fun (s12 : Int32) => f1_areAsked_s12 p3 (nI i) u s12) FU (0 : Int32)) (fun r => (r = .inl () ∧ ∀ k, k < i → ¬ b k = b i) ∨ (r = .inr ((0 : Int32), p3, u) ∧ ∃ k, k < i ∧ b k = b i)) := by
    refine ok_fu (fun m s => ∃ j : Nat, j + m = i ∧ s = nI j ∧ ∀ k, k < j → ¬ b k = b i) (k := i) (by omega) ⟨0, by omega, rfl, fun k hk => absurd hk (Nat.not_lt_zero _)⟩ ?_
    rintro m s ⟨j, hj, rfl, hne⟩
    unfold f1_areAsked_s12
    by_cases hij : i ≤ j
    · rw [if_pos (nI_le hij (by omega))]
      exact ok_i (Or.inl ⟨rfl, fun k hk => hne k (by omega)⟩)
    · rw [if_neg (nI_ge (show j < i by omega) (by omega)), gd_t (inb_nI (show j < 12 by omega) (by decide)), lt_is, gd_t (inb_nI hi (by decide)), lt_is, nI_clamp (show j < 2 ^ 31 by omega), nI_clamp (show i < 2 ^ 31 by omega), (hb j (by omega)).2, (hb i (Nat.le_refl _)).2]
      have h1 := (hb j (by omega)).1
      have h2 := (hb i (Nat.le_refl _)).1
      by_cases q : b j = b i
      · rw [if_pos (show nI (b j) = nI (b i) by rw [q])]
        exact ok_i (Or.inr ⟨rfl, j, by omega, q⟩)
      · rw [if_neg (fun e => q ((nI_eq (by omega) (by omega)).mp e)), lt_is, nI_1]
        refine ok_i ⟨m - 1, by omega, j + 1, by omega, rfl, fun k hk => ?_⟩
        by_cases e : k = j
        · subst e; exact q
        · exact hne k (by omega)
  obtain ⟨r, e, h⟩ := h
  rcases h with ⟨rfl, h⟩ | ⟨rfl, h⟩
  · exact Or.inl ⟨e, h⟩
  · exact Or.inr ⟨e, h⟩
theorem or_lt {S v : Nat} (hS : S < 2 ^ 12) (hv : v < 12) : S ||| 2 ^ v < 2 ^ 12 := Nat.or_lt_two_pow hS (Nat.pow_lt_pow_right (by decide) hv)
theorem asked_eq {M n lo hi : Nat} {b : Nat → Nat} {t1 t14 w asked team : Nat → Int32} {bg am tm : Int32} (hT : TP b t1 t14) (hn : n ≤ 740) (hM : M ≤ 12) (hbg : bg = 0 ∨ bg = 1) (w0 : layF bg w 0 = nI M) (hlo : lo < 2 ^ 29) (hhi : hi ≤ 12) :
    Ok (f1_areAsked (nI lo) (nI hi) (nI n) am (nI M) t1 asked) (fun x => Ok (f14_takesTeam (nI lo) (nI hi) 1 (nI n) bg tm t14 w team) (fun y => (y.2.1 = 0 ∧ y.2.2.1 = 1 ∧ y.2.2.2.2.1 = layF bg w) ∧ ((x.1 = 0 ∧ y.1 = 0) ∨ (x.1 = 1 ∧ y.1 = 1 ∧ x.2.1 = nI n ∧ y.2.2.2.1 = nI n ∧ lo ≤ n ∧ n ≤ hi ∧ Asked M n x.2.2 y.2.2.2.2.2)))) := by
  unfold f1_areAsked f14_takesTeam f14_take
  rw [lay_ok hbg, bind_is, bind_is]
  dsimp only
  rcases isIn_cc (nI n) (a := lo) (b := hi) rfl rfl (by omega) (by omega) with ⟨e, e', -⟩ | ⟨e, e', j, hj1, hj2, hj3⟩
  · rw [e, e', bind_is, bind_is, if_pos rfl, if_pos rfl]
    exact ok_i (ok_i ⟨⟨rfl, rfl, rfl⟩, Or.inl ⟨rfl, rfl⟩⟩)
  · have := (nI_eq (by omega) (by omega)).mp hj3
    subst this
    rw [e, e', bind_is, bind_is, if_neg (by decide), if_neg (by decide)]
    refine ok_b2 (S := fun (x : Int32 × Int32 × (Nat → Int32)) (y : Int32 × Int32 × Int32 × Int32 × (Nat → Int32) × (Nat → Int32)) => (y.2.1 = 0 ∧ y.2.2.1 = 1 ∧ y.2.2.2.2.1 = layF bg w) ∧ ((x.1 = 0 ∧ y.1 = 0) ∨ (x.1 = 1 ∧ y.1 = 1 ∧ x.2.1 = nI n ∧ y.2.2.2.1 = nI n ∧ lo ≤ n ∧ n ≤ hi ∧ Asked M n x.2.2 y.2.2.2.2.2))) ?_ (fun x y h => ok_i (ok_i h))
    refine ok_fu2 (fun k (s : Int32 × (Nat → Int32)) (t : Int32 × Int32 × (Nat → Int32)) => ∃ i S : Nat, i + k = n ∧ s.1 = nI i ∧ t.1 = nI S ∧ t.2.1 = nI i ∧ AskI M i S b s.2 t.2.2) (k := n) (by omega) ⟨0, 0, by omega, rfl, rfl, rfl, by decide, fun k h => absurd h (Nat.not_lt_zero _), fun v _ => ⟨fun h => by rw [Nat.zero_testBit] at h; exact absurd h (by decide), fun ⟨k, hk, _⟩ => absurd hk (Nat.not_lt_zero _)⟩, fun j k _ h => absurd h (Nat.not_lt_zero _)⟩ ?_
    rintro k ⟨s1, s2⟩ ⟨t1', t2, t3⟩ ⟨i, S, hik, e1, e2, e3, hS, hA, hB, hD⟩
    dsimp only at e1 e2 e3 hA hB hD ⊢
    subst e1 e2 e3
    unfold f1_areAsked_s3 f14_takesTeam_s5
    dsimp only
    by_cases hni : n ≤ i
    · rw [if_pos (nI_le hni (by omega)), if_pos (nI_le hni (by omega))]
      have hin : i = n := by omega
      subst hin
      exact ok_i (ok_i ⟨⟨rfl, rfl, rfl⟩, Or.inr ⟨rfl, rfl, rfl, rfl, hj1, hj2, b, hA, hD⟩⟩)
    · obtain ⟨o1, o2, o3⟩ := one_is hT (show i < 740 by omega)
      have hi12 : i < 12 := by omega
      rw [if_neg (nI_ge (show i < n by omega) (by omega)), if_neg (nI_ge (show i < n by omega) (by omega)), o1, bind_is, gd_t (inb_nI hi12 (by decide)), lt_is, gd_t (inb_nI hi12 (by decide)), lt_is, gd_t (inb_nI (show i < 740 by omega) (by decide)), lt_is]
      simp (disch := omega) only [nI_clamp]
      rw [pk_us, isMan_is hM o3, bind_is, men_is, bind_is, w0, o2]
      by_cases hbM : b i < M
      · rw [if_pos hbM, if_neg (by decide), if_neg (nI_ge hbM (by omega)), if_neg (by decide), gd_t (inb_nI (show i < 740 by omega) (by decide)), lt_is, has_is (by omega) (by omega), bind_is]
        have hu : ∀ k, k ≤ i → b k < 256 ∧ upd s2 i (nI (b i)) k = nI (b k) := by
          intro k hk
          by_cases q : k = i
          · subst q
            exact ⟨o3, pk_us⟩
          · rw [pk_un q]
            have := hA k (by omega)
            exact ⟨by omega, this.2.1⟩
        rcases ask_in (p3 := nI n) hi12 hu with ⟨ew, hne⟩ | ⟨ew, q, hq, hqe⟩
        · have hbit : ¬ S.testBit (b i) = true := fun h => by
            obtain ⟨k, hk, e⟩ := (hB (b i) (by omega)).mp h
            exact hne k hk e
          rw [ew, bind_is, if_neg hbit, if_pos rfl]
          unfold f14_takesTeam_j76
          rw [gd_t (inb_nI (show i < 740 by omega) (by decide)), lt_is, lt_is, lt_is, gd_t (inb_nI (show i < 740 by omega) (by decide)), lt_is, gd_t (inb_nI hi12 (by decide)), lt_is, lt_is, nI_clamp (show i < 2 ^ 31 by omega), o2, put_is (show b i < 31 by omega), nI_1]
          show Ok (f1_areAsked_e12_0 (nI i) (upd s2 i (nI (b i))) ()) _
          unfold f1_areAsked_e12_0
          rw [lt_is, nI_1]
          refine ok_i (ok_i ⟨k - 1, by omega, i + 1, S ||| 2 ^ b i, by omega, rfl, rfl, rfl, or_lt hS (by omega), fun k hk => ?_, fun v hv => ?_, fun j k hj hk => ?_⟩)
          · dsimp only
            by_cases q : k = i
            · subst q
              rw [pk_us, pk_us]
              exact ⟨hbM, rfl, rfl⟩
            · rw [pk_un q, pk_un q]
              exact hA k (by omega)
          · rw [Nat.testBit_or, Nat.testBit_two_pow, Bool.or_eq_true, hB v hv, decide_eq_true_eq]
            constructor
            · rintro (⟨k, hk, e⟩ | e)
              · exact ⟨k, by omega, e⟩
              · exact ⟨i, by omega, e⟩
            · rintro ⟨k, hk, e⟩
              by_cases q : k = i
              · subst q
                exact Or.inr e
              · exact Or.inl ⟨k, by omega, e⟩
          · by_cases q : k = i
            · subst q
              exact hne j hj
            · exact hD j k hj (by omega)
        · have hbit : S.testBit (b i) = true := (hB (b i) (by omega)).mpr ⟨q, hq, hqe⟩
          rw [ew, bind_is, if_pos hbit, if_neg (show ¬ (1 : Int32) = 0 by decide)]
          exact ok_i (ok_i ⟨⟨rfl, rfl, rfl⟩, Or.inl ⟨rfl, rfl⟩⟩)
      · rw [if_neg hbM, if_pos rfl, if_pos (nI_le (show M ≤ b i by omega) (by omega))]
        exact ok_i (ok_i ⟨⟨rfl, rfl, rfl⟩, Or.inl ⟨rfl, rfl⟩⟩)
theorem cp_n {n n0 n1 : Nat} (h0 : n ≤ n0) (h1 : n ≤ n1) (hn : n < 2 ^ 31) : cp_ok (0 : Int32) (0 : Int32) (nI n) n0 n1 := by
  have e : (0 : Int32).toNatClampNeg = 0 := rfl
  refine ⟨by decide, by decide, nI_pos hn, ?_, ?_⟩
  · rw [nI_clamp hn, e]
    omega
  · rw [nI_clamp hn, e]
    omega
theorem cpy_at {α : Type} {f g : Nat → α} {n j : Nat} (hn : n < 2 ^ 31) (h : j < n) : va_cpy f g (0 : Int32).toNatClampNeg (0 : Int32).toNatClampNeg (nI n).toNatClampNeg j = f j := by
  have e : (0 : Int32).toNatClampNeg = 0 := rfl
  rw [nI_clamp hn, e, pk_cpy_in (Nat.zero_le _) (by omega)]
  congr 1
  omega
theorem rowBegin_ok {N P : Nat} {wat : Int32} {x2 : Nat → Int32} (hN : N ≤ 12) (m0 w0 t0 k0 e0 f0 b0 d0 s0 : Int32) (men dn bs li st fi hp : Nat → Int32) : Ok (f10_begin (nI N) wat 12 (nI P) m0 w0 t0 k0 e0 f0 b0 d0 s0 men dn bs li st fi hp x2) (fun x => ∃ (men dn bs li st fi hp : Nat → Int32), x = (nI N, wat, 0, 0, nI P, 0, 0, 0, 0, men, dn, bs, li, st, fi, hp) ∧ (∀ k, k < N → men k = x2 k) ∧ ∀ k, k < 12 → dn k = 0 ∧ bs k = 0 ∧ li k = 0 ∧ st k = 0 ∧ fi k = 0 ∧ hp k = 0) := by
  unfold f10_begin f9_beginR
  rw [gd_t (cp_n hN hN (by omega)), lt_is, bind_is]
  refine ok_b (Q := fun (x : (Nat → Int32) × (Nat → Int32) × (Nat → Int32) × (Nat → Int32) × (Nat → Int32) × (Nat → Int32)) => ∀ k, k < 12 → x.1 k = 0 ∧ x.2.1 k = 0 ∧ x.2.2.1 k = 0 ∧ x.2.2.2.1 k = 0 ∧ x.2.2.2.2.1 k = 0 ∧ x.2.2.2.2.2 k = 0) ?_ ?_
  · refine for_ok (fun i (x : (Nat → Int32) × (Nat → Int32) × (Nat → Int32) × (Nat → Int32) × (Nat → Int32) × (Nat → Int32)) => (nI i, x)) (fun i x => ∀ k, k < i → x.1 k = 0 ∧ x.2.1 k = 0 ∧ x.2.2.1 k = 0 ∧ x.2.2.2.1 k = 0 ∧ x.2.2.2.2.1 k = 0 ∧ x.2.2.2.2.2 k = 0) 12 (by decide) (fun k h => absurd h (Nat.not_lt_zero _)) ?_ ?_
    · rintro i ⟨x1, x2, x3, x4, x5, x6⟩ hi hI
      dsimp only at hI ⊢
      unfold f10_begin_s2
      rw [show (12 : Int32) = nI 12 from rfl, if_neg (nI_ge hi (by decide))]
      simp only [lt_is]
      rw [gd_t (inb_nI hi (by decide)), gd_t (inb_nI hi (by decide)), gd_t (inb_nI hi (by decide)), gd_t (inb_nI hi (by decide)), gd_t (inb_nI hi (by decide)), gd_t (inb_nI hi (by decide)), nI_clamp (by omega), nI_1]
      refine ok_i ⟨_, rfl, fun k hk => ?_⟩
      dsimp only
      by_cases q : k = i
      · subst q
        rw [pk_us, pk_us, pk_us, pk_us, pk_us, pk_us]
        exact ⟨rfl, rfl, rfl, rfl, rfl, rfl⟩
      · rw [pk_un q, pk_un q, pk_un q, pk_un q, pk_un q, pk_un q]
        exact hI k (by omega)
    · rintro x hI
      dsimp only
      unfold f10_begin_s2
      rw [if_pos (show (12 : Int32) ≤ nI 12 by decide)]
      exact ok_i ⟨_, rfl, hI⟩
  · rintro ⟨y1, y2, y3, y4, y5, y6⟩ h
    unfold f10_begin_e2_0
    exact ok_i ⟨_, _, _, _, _, _, _, rfl, fun k hk => cpy_at (by omega) hk, h⟩
theorem start_ok {P N how : Nat} {w : Nat → Int32} (w2 : w 2 = nI P) (hP : P ≤ 30) (hN : N ≤ 12) (hh : how ≤ 2) (m0 k0 t0 e0 a0 l0 s0 p0 d0 : Int32) (rest load done waits most state : Nat → Int32) : Ok (f14_start (nI how) (nI N) m0 k0 t0 e0 a0 l0 s0 p0 d0 w rest load done waits most state) (fun x => ∃ (rest load done waits most state : Nat → Int32), x = (nI (if how = 2 then min N P else N), nI how, 0, nI P, 0, 0, 0, 0, 0, rest, load, done, waits, most, state) ∧ ∀ k, k < 12 → rest k = 0 ∧ load k = 0 ∧ done k = 0 ∧ waits k = 0 ∧ most k = 0 ∧ state k = 0) := by
  unfold f14_start
  rw [gd_t (show inb (2 : Int32) 800 by decide), lt_is, show (2 : Int32).toNatClampNeg = 2 from rfl, w2]
  refine ok_b (Q := fun (x : (Nat → Int32) × (Nat → Int32) × (Nat → Int32) × (Nat → Int32) × (Nat → Int32) × (Nat → Int32)) => ∀ k, k < 12 → x.1 k = 0 ∧ x.2.1 k = 0 ∧ x.2.2.1 k = 0 ∧ x.2.2.2.1 k = 0 ∧ x.2.2.2.2.1 k = 0 ∧ x.2.2.2.2.2 k = 0) ?_ ?_
  · refine for_ok (fun i (x : (Nat → Int32) × (Nat → Int32) × (Nat → Int32) × (Nat → Int32) × (Nat → Int32) × (Nat → Int32)) => (nI i, x)) (fun i x => ∀ k, k < i → x.1 k = 0 ∧ x.2.1 k = 0 ∧ x.2.2.1 k = 0 ∧ x.2.2.2.1 k = 0 ∧ x.2.2.2.2.1 k = 0 ∧ x.2.2.2.2.2 k = 0) 12 (by decide) (fun k h => absurd h (Nat.not_lt_zero _)) ?_ ?_
    · rintro i ⟨x1, x2, x3, x4, x5, x6⟩ hi hI
      dsimp only at hI ⊢
      unfold f14_start_s3
      rw [show (12 : Int32) = nI 12 from rfl, if_neg (nI_ge hi (by decide))]
      simp only [lt_is]
      rw [gd_t (inb_nI hi (by decide)), gd_t (inb_nI hi (by decide)), gd_t (inb_nI hi (by decide)), gd_t (inb_nI hi (by decide)), gd_t (inb_nI hi (by decide)), gd_t (inb_nI hi (by decide)), nI_clamp (by omega), nI_1]
      refine ok_i ⟨_, rfl, fun k hk => ?_⟩
      dsimp only
      by_cases q : k = i
      · subst q
        rw [pk_us, pk_us, pk_us, pk_us, pk_us, pk_us]
        exact ⟨rfl, rfl, rfl, rfl, rfl, rfl⟩
      · rw [pk_un q, pk_un q, pk_un q, pk_un q, pk_un q, pk_un q]
        exact hI k (by omega)
    · rintro x hI
      dsimp only
      unfold f14_start_s3
      rw [if_pos (show (12 : Int32) ≤ nI 12 by decide)]
      exact ok_i ⟨_, rfl, hI⟩
  · rintro ⟨y1, y2, y3, y4, y5, y6⟩ h
    unfold f14_start_e3_0
    by_cases q : how = 2
    · subst q
      rw [if_pos (show nI 2 = 2 from rfl), gd_t (show inb (2 : Int32) 800 by decide), lt_is]
      simp only [show (2 : Int32).toNatClampNeg = 2 from rfl, w2]
      rw [if_pos trivial]
      by_cases q2 : N ≤ P
      · rw [if_pos (nI_le q2 (by omega)), Nat.min_eq_left q2]
        exact ok_i ⟨_, _, _, _, _, _, rfl, h⟩
      · rw [if_neg (nI_ge (show P < N by omega) (by omega)), gd_t (show inb (2 : Int32) 800 by decide), lt_is, Nat.min_eq_right (by omega)]
        exact ok_i ⟨_, _, _, _, _, _, rfl, h⟩
    · rw [if_neg (show ¬ nI how = 2 from fun e => q ((nI_eq (by omega) (by decide)).mp e)), if_neg q]
      exact ok_i ⟨_, _, _, _, _, _, rfl, h⟩
theorem runBegin_ok {N P : Nat} {wat : Int32} {x2 : Nat → Int32} (hN : N ≤ 12) (hP : P ≤ 30) (m0 w0 t0 k0 g0 : Int32) (men does : Nat → Int32) : Ok (f11_begin (nI N) wat 12 (nI P) m0 w0 t0 k0 g0 men does x2) (fun x => ∃ (men does : Nat → Int32), x = (nI (min N P), wat, 0, 0, 0, men, does) ∧ (∀ k, k < min N P → men k = x2 k) ∧ ∀ k, k < 12 → does k = 0) := by
  unfold f11_begin f9_beginN
  have e1 : (if nI P < nI N then nI P else nI N) = nI (min N P) := by
    by_cases q : P < N
    · rw [if_pos (nI_lt q (by omega)), Nat.min_eq_right (by omega)]
    · rw [if_neg (nI_nlt (show N ≤ P by omega) (by omega)), Nat.min_eq_left (by omega)]
  rw [lt_is, e1, gd_t (cp_n (by omega) (by omega) (by omega)), lt_is, bind_is]
  refine ok_b (Q := fun (x : Int32 × Int32 × Int32 × Int32 × Int32 × (Nat → Int32) × (Nat → Int32)) => ∃ does, x = (nI (min N P), wat, 0, 0, 0, va_cpy x2 men (0 : Int32).toNatClampNeg (0 : Int32).toNatClampNeg (nI (min N P)).toNatClampNeg, does) ∧ ∀ k, k < 12 → does k = 0) ?_ ?_
  · refine for_ok (fun i (x : Nat → Int32) => (nI i, x)) (fun i x => ∀ k, k < i → x k = 0) 12 (by decide) (fun k h => absurd h (Nat.not_lt_zero _)) ?_ ?_
    · rintro i x hi hI
      dsimp only at hI ⊢
      unfold f11_begin_s3
      rw [show (12 : Int32) = nI 12 from rfl, if_neg (nI_ge hi (by decide)), gd_t (inb_nI hi (by decide)), lt_is, lt_is, nI_clamp (by omega), nI_1]
      refine ok_i ⟨_, rfl, fun k hk => ?_⟩
      by_cases q : k = i
      · subst q
        exact pk_us
      · rw [pk_un q]
        exact hI k (by omega)
    · rintro x hI
      dsimp only
      unfold f11_begin_s3
      rw [if_pos (show (12 : Int32) ≤ nI 12 by decide)]
      exact ok_i ⟨_, rfl, _, rfl, hI⟩
  · rintro x ⟨does, rfl, h⟩
    unfold f11_begin_e3_0
    exact ok_i ⟨_, _, rfl, fun k hk => cpy_at (by omega) hk, h⟩
