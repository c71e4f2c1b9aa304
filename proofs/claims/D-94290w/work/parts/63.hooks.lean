/-! the plain law: hooks -/
set_option maxRecDepth 100000
theorem abs_is {a c : Nat} (ha : a ≤ 99) (hc : c ≤ 99) : ∃ v : Nat, v ≤ 99 ∧ ((0 ≤ nI a - nI c ∧ nI a - nI c = nI v) ∨ (¬ 0 ≤ nI a - nI c ∧ 0 - (nI a - nI c) = nI v ∧ -(nI a - nI c) = nI v)) := by
  by_cases q : c ≤ a
  · refine ⟨a - c, by omega, Or.inl ?_⟩
    rw [pk_sub q]
    exact ⟨nI_pos' (by omega), rfl⟩
  · refine ⟨c - a, by omega, Or.inr ⟨?_, ?_, ?_⟩⟩
    · have := pk_sneg (show c < 2 ^ 30 by omega) (show a < c by omega)
      exact fun h => absurd (Int32.lt_of_lt_of_le this h) (Int32.lt_irrefl)
    · rw [Int32.zero_sub, Int32.neg_sub, pk_sub (by omega)]
    · rw [Int32.neg_sub, pk_sub (by omega)]
theorem way_eq {n H : Nat} {b h : Nat → Nat} {t1 t14 hooked hook house : Nat → Int32} (hT : TP b t1 t14) (hn : n ≤ 12) (hb : ∀ k, k < n → b k ≤ 99) (hho : ∀ k, k < n → house k = nI (b k)) (hH1 : 1 ≤ H) (hH : H ≤ 6) (hh : ∀ j, j < H → hooked j = nI (h j) ∧ hook j = nI (h j) ∧ h j ≤ 99) : Ok (f1_wayBy (nI H) (nI n) t1 hooked) (fun x => Ok (whl (fun (s12 : Int32 × Int32) => f14_tryHooks_s12 (nI H) (nI n) house hook s12.1 s12.2) FU ((0 : Int32), (0 : Int32))) (fun y => ∃ v : Nat, v ≤ 99 ∧ x = nI v ∧ y = nI v)) := by
  unfold f1_wayBy
  have hb1 : ∀ o : Option Int32, (o.bind fun r => f1_wayBy_e1_0 r) = o := fun o => by cases o <;> rfl
  rw [hb1]
  refine for2_ok (fun i (x : Int32) => (x, nI i)) (fun i (x : Int32) => (x, nI i)) (fun i x y => ∃ v : Nat, v ≤ 99 ∧ x = nI v ∧ y = nI v) n (by omega) ⟨0, by decide, rfl, rfl⟩ ?_ ?_
  · rintro i x y hi ⟨v, hv, rfl, rfl⟩
    obtain ⟨o1, o2, o3⟩ := one_is hT (show i < 740 by omega)
    have hic : (nI i).toNatClampNeg = i := nI_clamp (by omega)
    dsimp only
    unfold f1_wayBy_s1 f14_tryHooks_s12
    rw [if_neg (nI_ge hi (by omega)), if_neg (nI_ge hi (by omega))]
    refine ok_b2 (S := fun x y => ∃ v : Nat, v ≤ 99 ∧ x = nI v ∧ y = nI v) ?_ ?_
    · refine for2_ok (fun i (x : Int32) => (x, nI i)) (fun i (x : Int32) => (x, nI i)) (fun j x y => (j = 0 ∧ x = nI 1000000000 ∧ y = nI 1000) ∨ ∃ v : Nat, v ≤ 99 ∧ x = nI v ∧ y = nI v) H (by omega) (Or.inl ⟨rfl, rfl, rfl⟩) ?_ ?_
      · rintro j x y hj hI
        obtain ⟨c1, c2, c3⟩ := hh j hj
        have hjc : (nI j).toNatClampNeg = j := nI_clamp (by omega)
        obtain ⟨d, hd, hd2⟩ := abs_is (hb i hi) c3
        have hmin : ∃ u, u ≤ 99 ∧ (if nI d < x then nI d else x) = nI u ∧ ((y ≤ nI d ∧ y = nI u) ∨ (¬ y ≤ nI d ∧ nI d = nI u)) := by
          rcases hI with ⟨-, rfl, rfl⟩ | ⟨u, hu, rfl, rfl⟩
          · exact ⟨d, hd, if_pos (nI_lt (by omega) (by omega)), Or.inr ⟨nI_ge (by omega) (by omega), rfl⟩⟩
          · by_cases q : d < u
            · exact ⟨d, hd, if_pos (nI_lt q (by omega)), Or.inr ⟨nI_ge q (by omega), rfl⟩⟩
            · exact ⟨u, hu, if_neg (nI_nlt (by omega) (by omega)), Or.inl ⟨nI_le (by omega) (by omega), rfl⟩⟩
        obtain ⟨u, hu, m1, m2⟩ := hmin
        dsimp only
        unfold f1_wayBy_s3 f14_tryHooks_s23
        rw [if_neg (nI_ge hj (by omega)), if_neg (nI_ge hj (by omega)), o1, bind_is]
        simp only [gd_t (inb_nI (show j < 6 by omega) (by decide)), gd_t (inb_nI (show i < 12 by omega) (by decide)), lt_is, hjc, hic, nI_1, c1, c2, hho i hi]
        have hfin : Ok (some (Sum.inl (nI u, nI (j + 1))) : Option ((Int32 × Int32) ⊕ Int32)) (fun o => Ok (f14_tryHooks_j61 y (nI j) (nI d)) (fun q => ∃ x' y', o = .inl (x', nI (j + 1)) ∧ q = .inl (y', nI (j + 1)) ∧ ((j + 1 = 0 ∧ x' = nI 1000000000 ∧ y' = nI 1000) ∨ ∃ v : Nat, v ≤ 99 ∧ x' = nI v ∧ y' = nI v))) := by
          unfold f14_tryHooks_j61 f14_tryHooks_j72
          rcases m2 with ⟨m2, m3⟩ | ⟨m2, m3⟩
          · rw [if_pos m2, lt_is, nI_1, m3]
            exact ok_i (ok_i ⟨_, _, rfl, rfl, Or.inr ⟨u, hu, rfl, rfl⟩⟩)
          · rw [if_neg m2, lt_is, nI_1, m3]
            exact ok_i (ok_i ⟨_, _, rfl, rfl, Or.inr ⟨u, hu, rfl, rfl⟩⟩)
        rcases hd2 with ⟨k1, k2⟩ | ⟨k1, k2, k3⟩
        · simp only [if_pos k1]
          rw [k2, m1]
          exact hfin
        · simp only [if_neg k1]
          rw [k2, k3, m1]
          exact hfin
      · rintro x y hI
        dsimp only
        unfold f1_wayBy_s3 f14_tryHooks_s23
        rw [if_pos (nI_le (Nat.le_refl _) (by omega)), if_pos (nI_le (Nat.le_refl _) (by omega))]
        refine ok_i (ok_i ⟨_, _, rfl, rfl, ?_⟩)
        rcases hI with ⟨h, -⟩ | h
        · omega
        · exact h
    · rintro x y ⟨u, hu, rfl, rfl⟩
      unfold f1_wayBy_e3_0 f14_tryHooks_e23_0 f14_tryHooks_j89
      simp only [lt_is, nI_1]
      by_cases q : v < u
      · rw [if_pos (nI_lt q (by omega)), if_neg (nI_ge q (by omega))]
        exact ok_i (ok_i ⟨_, _, rfl, rfl, u, hu, rfl, rfl⟩)
      · rw [if_neg (nI_nlt (show u ≤ v by omega) (by omega)), if_pos (nI_le (show u ≤ v by omega) (by omega))]
        exact ok_i (ok_i ⟨_, _, rfl, rfl, v, hv, rfl, rfl⟩)
  · rintro x y hI
    dsimp only
    unfold f1_wayBy_s1 f14_tryHooks_s12
    rw [if_pos (nI_le (Nat.le_refl _) (by omega)), if_pos (nI_le (Nat.le_refl _) (by omega))]
    exact ok_i (ok_i ⟨_, _, rfl, rfl, hI⟩)
def HkR (H : Nat) (b1 b14 : Int32) (r1 r14 : Nat → Int32) : Prop := (b1 = nI 1000000000 ∧ b14 = -1) ∨ ∃ b : Nat, b ≤ 99 ∧ b1 = nI b ∧ b14 = nI b ∧ ∀ j, j < H → r1 j = r14 j
theorem hang_eq {n H : Nat} {b : Nat → Nat} {t1 t14 house : Nat → Int32} (hT : TP b t1 t14) (hn : n ≤ 12) (hb : ∀ k, k < n → b k ≤ 99) (hho : ∀ k, k < n → house k = nI (b k)) (hH1 : 1 ≤ H) (hH : H ≤ 6) : ∀ (d p f : Nat) (h : Nat → Nat) (b1 b14 : Int32) (hooked best hook best14 : Nat → Int32), p ≤ H → H < d + p → f ≤ n → (∀ j, j < p → hooked j = nI (h j) ∧ hook j = nI (h j) ∧ h j ≤ 99) → HkR H b1 b14 best best14 →
    Ok (fG_X1_hang d (nI p) (nI f) (nI H) (nI n) b1 t1 hooked best) (fun x => Ok (fG_X14_tryHooks d (nI p) (nI H) (nI f) (nI n) b14 house hook best14) (fun y => HkR H x.1 y.1 x.2.2 y.2.2 ∧ (∀ j, j < p → x.2.1 j = hooked j ∧ y.2.1 j = hook j) ∧ ((¬ b14 = -1 ∨ f + (H - p) ≤ n) → ¬ y.1 = -1))) := by
  intro d
  induction d with
  | zero =>
    intros
    omega
  | succ d ih =>
    intro p f h b1 b14 hooked best hook best14 hpH hd hf hh hR
    show Ok (fb1_hang (fG_X1_hang d) (nI p) (nI f) (nI H) (nI n) b1 t1 hooked best) (fun x => Ok (fb14_tryHooks (fG_X14_tryHooks d) (nI p) (nI H) (nI f) (nI n) b14 house hook best14) _)
    unfold fb1_hang fb14_tryHooks
    by_cases hp : p = H
    · subst hp
      rw [if_pos rfl, if_pos rfl]
      refine ok_b2 (way_eq hT hn hb hho hH1 hH hh) ?_
      rintro x y ⟨v, hv, rfl, rfl⟩
      unfold f14_tryHooks_e12_0
      have hj : Ok (f14_tryHooks_j113 (nI p) hook best14 (nI v)) (fun y => y.1 = nI v ∧ y.2.1 = hook ∧ ∀ j, j < p → y.2.2 j = hook j) := by
        unfold f14_tryHooks_j113
        refine ok_b (Q := fun (y : Int32 × (Nat → Int32) × (Nat → Int32)) => y.1 = nI v ∧ y.2.1 = hook ∧ ∀ j, j < p → y.2.2 j = hook j) ?_ (fun x h => ok_i h)
        refine for_ok (fun i (x : Nat → Int32) => (nI i, x)) (fun i x => ∀ j, j < i → x j = hook j) p (by omega) (fun j h => absurd h (Nat.not_lt_zero _)) ?_ ?_
        · intro i x hi hI
          have hic : (nI i).toNatClampNeg = i := nI_clamp (by omega)
          dsimp only
          unfold f14_tryHooks_s13
          rw [if_neg (nI_ge hi (by omega))]
          simp only [gd_t (inb_nI (show i < 6 by omega) (by decide)), lt_is, hic, nI_1]
          refine ok_i ⟨_, rfl, fun k hk => ?_⟩
          by_cases e : k = i
          · subst e; rw [pk_us]
          · rw [pk_un e]; exact hI k (by omega)
        · intro x hI
          dsimp only
          unfold f14_tryHooks_s13
          rw [if_pos (nI_le (Nat.le_refl _) (by omega))]
          exact ok_i ⟨_, rfl, rfl, rfl, hI⟩
      obtain ⟨⟨z1, z2, z3⟩, ez, rfl, rfl, hz3⟩ := hj
      rw [ez]
      dsimp only at hz3
      have hnew : Ok (gd (cp_ok (0 : Int32) (0 : Int32) (nI p) 6 6) <| lt (va_cpy hooked best (0 : Int32).toNatClampNeg (0 : Int32).toNatClampNeg (nI p).toNatClampNeg) fun u14 => some (nI v, hooked, u14)) (fun x => Ok (some (nI v, z2, z3)) (fun y => HkR p x.1 y.1 x.2.2 y.2.2 ∧ (∀ j, j < p → x.2.1 j = hooked j ∧ y.2.1 j = z2 j) ∧ ((¬ b14 = -1 ∨ f + (p - p) ≤ n) → ¬ y.1 = -1))) := by
        rw [gd_t (cp_n hH hH (by omega)), lt_is]
        refine ok_i (ok_i ⟨Or.inr ⟨v, hv, rfl, rfl, fun j hj => ?_⟩, fun j hj => ⟨rfl, rfl⟩, fun _ => nI_nm1 (by omega)⟩)
        dsimp only
        rw [cpy_at (by omega) hj, hz3 j hj, (hh j hj).1]
        exact ((hh j hj).2.1).symm
      rcases hR with ⟨eb1, eb14⟩ | ⟨u, hu, eb1, eb14, hrow⟩
      · rw [if_pos eb14, eb1, if_pos (nI_lt (by omega) (by omega))]
        exact hnew
      · have hn1 : ¬ b14 = -1 := by
          rw [eb14]
          exact nI_nm1 (by omega)
        rw [if_neg hn1]
        by_cases q : v < u
        · rw [if_pos (by rw [eb1]; exact nI_lt q (by omega)), if_pos (by rw [eb14]; exact nI_lt q (by omega))]
          exact hnew
        · rw [if_neg (by rw [eb1]; exact nI_nlt (by omega) (by omega)), if_neg (by rw [eb14]; exact nI_nlt (by omega) (by omega))]
          exact ok_i (ok_i ⟨Or.inr ⟨u, hu, eb1, eb14, hrow⟩, fun j hj => ⟨rfl, rfl⟩, fun _ => hn1⟩)
    · rw [if_neg (fun h => hp ((nI_eq (by omega) (by omega)).mp h)), if_neg (fun h => hp ((nI_eq (by omega) (by omega)).mp h))]
      refine ok_b2 (S := fun (x : Int32 × (Nat → Int32) × (Nat → Int32)) (y : Int32 × (Nat → Int32) × (Nat → Int32)) => HkR H x.1 y.1 x.2.2 y.2.2 ∧ (∀ j, j < p → x.2.1 j = hooked j ∧ y.2.1 j = hook j) ∧ ((¬ b14 = -1 ∨ f + (H - p) ≤ n) → ¬ y.1 = -1)) ?_ (fun x y h => ok_i (ok_i h))
      refine for2_ok (fun i (x : Int32 × (Nat → Int32) × (Nat → Int32)) => (nI (f + i), x)) (fun i (x : Int32 × (Nat → Int32) × (Nat → Int32)) => (nI (f + i), x)) (fun i x y => HkR H x.1 y.1 x.2.2 y.2.2 ∧ (∀ j, j < p → x.2.1 j = hooked j ∧ y.2.1 j = hook j) ∧ ((¬ b14 = -1 ∨ f + (H - p) ≤ n ∧ 0 < i) → ¬ y.1 = -1)) (n - f) (by omega) ⟨hR, fun j hj => ⟨rfl, rfl⟩, fun h => h.elim id (fun h => absurd h.2 (Nat.not_lt_zero _))⟩ ?_ ?_
      · rintro i ⟨x1, x2, x3⟩ ⟨y1, y2, y3⟩ hi ⟨e1, e2, e3⟩
        dsimp only at e1 e2 e3 ⊢
        obtain ⟨o1, o2, o3⟩ := one_is hT (show f + i < 740 by omega)
        have hic : (nI (f + i)).toNatClampNeg = f + i := nI_clamp (by omega)
        have hpc : (nI p).toNatClampNeg = p := nI_clamp (by omega)
        unfold f1_hang_s2 f14_tryHooks_s2
        rw [if_neg (nI_ge (show f + i < n by omega) (by omega)), if_neg (nI_ge (show f + i < n by omega) (by omega)), o1, bind_is]
        simp only [gd_t (inb_nI (show p < 6 by omega) (by decide)), gd_t (inb_nI (show f + i < 12 by omega) (by decide)), lt_is, hic, hpc, nI_1, hho (f + i) (by omega)]
        refine ok_b2 (ih (p + 1) (f + i + 1) (fun j => if j = p then b (f + i) else h j) _ _ _ _ _ _ (by omega) (by omega) (by omega) (fun j hj => ?_) e1) ?_
        · by_cases q : j = p
          · subst q
            rw [pk_us, pk_us, if_pos rfl]
            exact ⟨rfl, rfl, hb _ (by omega)⟩
          · rw [pk_un q, pk_un q, if_neg q, (e2 j (by omega)).1, (e2 j (by omega)).2]
            exact hh j (by omega)
        · rintro ⟨x1', x2', x3'⟩ ⟨y1', y2', y3'⟩ ⟨f1, f2, f3⟩
          dsimp only at f1 f2 f3 ⊢
          refine ok_i (ok_i ⟨_, _, rfl, rfl, f1, fun j hj => ?_, fun hq => f3 ?_⟩)
          · have := f2 j (by omega)
            rw [pk_un (by omega), pk_un (by omega)] at this
            exact ⟨this.1.trans (e2 j hj).1, this.2.trans (e2 j hj).2⟩
          · rcases hq with hq | ⟨hq, -⟩
            · exact Or.inl (e3 (Or.inl hq))
            · by_cases hi0 : 0 < i
              · exact Or.inl (e3 (Or.inr ⟨hq, hi0⟩))
              · exact Or.inr (by omega)
      · rintro x y ⟨h1, h2, h3⟩
        dsimp only
        unfold f1_hang_s2 f14_tryHooks_s2
        have e : f + (n - f) = n := by omega
        rw [e, if_pos (nI_le (Nat.le_refl _) (by omega)), if_pos (nI_le (Nat.le_refl _) (by omega))]
        exact ok_i (ok_i ⟨_, _, rfl, rfl, h1, h2, fun h => h3 (h.imp id (fun h => ⟨h, by omega⟩))⟩)
theorem hooks_eq {n : Nat} {b : Nat → Nat} {t1 t14 : Nat → Int32} (hT : TP b t1 t14) (hn : n ≤ 740) (p sz bw hl h14 th : Int32) (hooked hook house best14 : Nat → Int32) {hm1 hm14 : Int32} {bes told : Nat → Int32} (hk : pKept 6 hm1 hm14 bes told) :
    Ok (f1_hooks p (nI n) sz hm1 bw t1 hooked bes) (fun x => Ok (f14_hooks p th (nI n) h14 hl hm14 t14 house hook best14 told) (fun y => x.1 = y.1 ∧ x.2.1 = nI 0 ∧ y.2.1 = 0 ∧ y.2.2.1 = nI 0 ∧ pKept 6 x.2.2.2.1 y.2.2.2.2.2.1 x.2.2.2.2.2.2 y.2.2.2.2.2.2.2.2.2)) := by
  unfold f1_hooks f14_hooks f1_taken f14_take
  rw [bind_is, bind_is]
  dsimp only
  rcases isIn_cc (nI n) (a := 1) (b := 12) (A := 1) (B := 12) rfl rfl (by decide) (by decide) with ⟨e, e', -⟩ | ⟨e, e', j, hj1, hj2, hj3⟩
  · rw [e, e', bind_is, bind_is, if_pos rfl, if_pos rfl]
    exact ok_i (ok_i ⟨rfl, rfl, rfl, rfl, hk⟩)
  · have := (nI_eq (by omega) (by omega)).mp hj3
    subst this
    rw [e, e', bind_is, bind_is, if_neg (show ¬ (1 : Int32) = 0 by decide), if_neg (show ¬ (1 : Int32) = 0 by decide), lt_is]
    have hmin : (if nI n < (6 : Int32) then nI n else (6 : Int32)) = nI (min n 6) := by
      show (if nI n < nI 6 then nI n else nI 6) = nI (min n 6)
      by_cases q : n < 6
      · rw [if_pos (nI_lt q (by decide)), Nat.min_eq_left (by omega)]
      · rw [if_neg (nI_nlt (by omega) (by omega)), Nat.min_eq_right (by omega)]
    rw [hmin]
    rcases isIn_cc p (a := 1) (b := min n 6) (A := 1) (B := nI (min n 6)) rfl rfl (by decide) (by omega) with ⟨u, -, uno⟩ | ⟨u, -, H, hH1, hH2, rfl⟩
    · rw [u, bind_is, if_pos rfl]
      refine ok_i ?_
      rcases isIn_cc p (a := 1) (b := 6) (A := 1) (B := 6) rfl rfl (by decide) (by decide) with ⟨-, v, -⟩ | ⟨-, v, k, hk1, hk2, rfl⟩
      · rw [v, bind_is, if_pos rfl]
        exact ok_i ⟨rfl, rfl, rfl, rfl, hk⟩
      · rw [v, bind_is, if_neg (by decide)]
        by_cases q : k ≤ n
        · exact absurd ⟨hk1, by omega⟩ (uno k rfl (by omega))
        · rw [if_neg (nI_ge (by omega) (by omega))]
          exact ok_i ⟨rfl, rfl, rfl, rfl, hk⟩
    · rcases isIn_cc (nI H) (a := 1) (b := 6) (A := 1) (B := 6) rfl rfl (by decide) (by decide) with ⟨-, v, vno⟩ | ⟨-, v, -⟩
      · exact absurd ⟨hH1, by omega⟩ (vno H rfl (by omega))
      · rw [u, v, bind_is, bind_is, if_neg (by decide), if_neg (by decide), if_pos (nI_le (show H ≤ n by omega) (by omega))]
        refine ok_b2 (S := fun (x : Unit ⊕ Int32 × Int32 × Int32 × Int32 × Int32 × (Nat → Int32) × (Nat → Int32)) (y : (Nat → Int32) ⊕ Int32 × Int32 × Int32 × Int32 × Int32 × Int32 × (Nat → Int32) × (Nat → Int32) × (Nat → Int32) × (Nat → Int32)) => (∃ ho : Nat → Int32, x = .inl () ∧ y = .inl ho ∧ ∀ k, k < n → ho k = nI (b k) ∧ b k ≤ 99) ∨ (∃ ho : Nat → Int32, x = .inr ((-1 : Int32), 0, nI n, hm1, bw, hooked, bes) ∧ y = .inr ((-1 : Int32), (0 : Int32), 0, nI n, hl, hm14, ho, hook, best14, told))) ?_ ?_
        · refine ok_lp2 (fun k (s : Int32) (t : Int32 × (Nat → Int32)) => ∃ i, i + k = n ∧ s = nI i ∧ t.1 = nI i ∧ ∀ j, j < i → t.2 j = nI (b j) ∧ b j ≤ 99) (k := n) (by omega) ⟨0, by omega, rfl, rfl, fun j hj => absurd hj (Nat.not_lt_zero _)⟩ ?_
          rintro k s ⟨t1', t2⟩ ⟨i, hik, rfl, rfl, hI⟩
          dsimp only at hI ⊢
          unfold f1_hooks_s7 f14_hooks_s7
          dsimp only
          by_cases hni : n ≤ i
          · have : i = n := by omega
            subst this
            rw [if_pos (nI_le (Nat.le_refl _) (by omega)), if_pos (nI_le (Nat.le_refl _) (by omega))]
            exact ok_i (ok_i (Or.inl ⟨_, rfl, rfl, hI⟩))
          · obtain ⟨o1, o2, o3⟩ := one_is hT (show i < 740 by omega)
            have hic : (nI i).toNatClampNeg = i := nI_clamp (by omega)
            rw [if_neg (nI_ge (show i < n by omega) (by omega)), if_neg (nI_ge (show i < n by omega) (by omega)), o1, bind_is]
            simp only [gd_t (inb_nI (show i < 740 by omega) (by decide)), lt_is, hic, o2]
            by_cases h99 : 99 < b i
            · rw [if_pos (show (99 : Int32) < nI (b i) from nI_lt (a := 99) h99 (by omega)), if_pos (show (99 : Int32) < nI (b i) from nI_lt (a := 99) h99 (by omega))]
              exact ok_i (ok_i (Or.inr ⟨_, rfl, rfl⟩))
            · rw [if_neg (show ¬ (99 : Int32) < nI (b i) from nI_nlt (show b i ≤ 99 by omega) (by decide)), if_neg (show ¬ (99 : Int32) < nI (b i) from nI_nlt (show b i ≤ 99 by omega) (by decide))]
              have hgo : Ok (f1_hooks_j77 (nI i)) (fun o => Ok (f14_hooks_j90 t14 (nI i) t2) (fun q => st2 (fun k (s : Int32) (t : Int32 × (Nat → Int32)) => ∃ i, i + k = n ∧ s = nI i ∧ t.1 = nI i ∧ ∀ j, j < i → t.2 j = nI (b j) ∧ b j ≤ 99) (fun (x : Unit ⊕ Int32 × Int32 × Int32 × Int32 × Int32 × (Nat → Int32) × (Nat → Int32)) (y : (Nat → Int32) ⊕ Int32 × Int32 × Int32 × Int32 × Int32 × Int32 × (Nat → Int32) × (Nat → Int32) × (Nat → Int32) × (Nat → Int32)) => (∃ ho : Nat → Int32, x = .inl () ∧ y = .inl ho ∧ ∀ k, k < n → ho k = nI (b k) ∧ b k ≤ 99) ∨ (∃ ho : Nat → Int32, x = .inr ((-1 : Int32), 0, nI n, hm1, bw, hooked, bes) ∧ y = .inr ((-1 : Int32), (0 : Int32), 0, nI n, hl, hm14, ho, hook, best14, told))) k o q)) := by
                unfold f1_hooks_j77 f14_hooks_j90
                simp only [gd_t (inb_nI (show i < 740 by omega) (by decide)), gd_t (inb_nI (show i < 12 by omega) (by decide)), lt_is, hic, o2, nI_1]
                refine ok_i (ok_i ⟨k - 1, by omega, i + 1, by omega, rfl, rfl, fun j hj => ?_⟩)
                dsimp only
                by_cases e : j = i
                · subst e; rw [pk_us]; exact ⟨rfl, by omega⟩
                · rw [pk_un e]; exact hI j (by omega)
              cases i with
              | zero =>
                rw [if_pos (show nI 0 ≤ 0 by decide), if_pos (show nI 0 ≤ 0 by decide)]
                exact hgo
              | succ i =>
                obtain ⟨o1', o2', o3'⟩ := one_is hT (show i < 740 by omega)
                have hic' : (nI i).toNatClampNeg = i := nI_clamp (by omega)
                rw [if_neg (nI_nle (show 0 < i + 1 by omega) (by omega)), if_neg (nI_nle (show 0 < i + 1 by omega) (by omega))]
                simp only [gd_t (inb_nI (show i < 740 by omega) (by decide)), lt_is, nI_pred, o1, o1', bind_is, o2', hic']
                by_cases q : b i < b (i + 1)
                · rw [if_pos (nI_lt q (by omega)), if_pos (nI_lt q (by omega))]
                  exact hgo
                · rw [if_neg (nI_nlt (show b (i + 1) ≤ b i by omega) (by omega)), if_neg (nI_nlt (show b (i + 1) ≤ b i by omega) (by omega))]
                  exact ok_i (ok_i (Or.inr ⟨_, rfl, rfl⟩))
        · rintro x y (⟨ho, rfl, rfl, hho⟩ | ⟨ho, rfl, rfl⟩)
          · show Ok (f1_hooks_e7_0 (nI H) t1 hooked bes (0, nI n) ()) (fun x => Ok (f14_hooks_e7_0 (nI H) hook best14 told (nI n, 0) ho) _)
            unfold f1_hooks_e7_0 f14_hooks_e7_0
            dsimp only
            refine ok_b2 (hang_eq hT hj2 (fun k hk => (hho k hk).2) (fun k hk => (hho k hk).1) hH1 (show H ≤ 6 by omega) 8 0 0 (fun _ => 0) 1000000000 (-1) hooked bes hook best14 (Nat.zero_le _) (by omega) (Nat.zero_le _) (fun j hj => absurd hj (Nat.not_lt_zero _)) (Or.inl ⟨rfl, rfl⟩)) ?_
            rintro ⟨x1, x2, x3⟩ ⟨z1, z2, z3⟩ ⟨hR, -, hF⟩
            dsimp only at hR hF ⊢
            rcases hR with ⟨-, hz⟩ | ⟨v, hv, e1, e2, hrow⟩
            · exact absurd hz (hF (Or.inr (by omega)))
            · have z7 : Ok (whl (fun (s9 : Int32 × (Nat → Int32)) => f14_hooks_s9 (nI H) (z1, z2, z3) s9.1 s9.2) FU ((0 : Int32), told)) (fun z => ∀ k, k < H → z k = z3 k) := by
                refine for_ok (fun i (x : Nat → Int32) => (nI i, x)) (fun i x => ∀ k, k < i → x k = z3 k) H (by omega) (fun k h => absurd h (Nat.not_lt_zero _)) ?_ ?_
                · intro i x hi hI
                  have hic : (nI i).toNatClampNeg = i := nI_clamp (by omega)
                  dsimp only
                  unfold f14_hooks_s9
                  dsimp only
                  rw [if_neg (nI_ge hi (by omega))]
                  simp only [gd_t (inb_nI (show i < 6 by omega) (by decide)), lt_is, hic, nI_1]
                  refine ok_i ⟨_, rfl, fun k hk => ?_⟩
                  by_cases e : k = i
                  · subst e; rw [pk_us]
                  · rw [pk_un e]; exact hI k (by omega)
                · intro x hI
                  dsimp only
                  unfold f14_hooks_s9
                  dsimp only
                  rw [if_pos (nI_le (Nat.le_refl _) (by omega))]
                  exact ok_i ⟨_, rfl, hI⟩
              obtain ⟨z, ez, hz7⟩ := z7
              rw [ez, bind_is]
              unfold f14_hooks_e9_0
              dsimp only
              refine ok_i (ok_i ⟨e1.trans e2.symm, rfl, rfl, rfl, H, by omega, rfl, rfl, fun i hi => ?_⟩)
              dsimp only
              rw [hz7 i hi, hrow i hi]
          · exact ok_i (ok_i ⟨rfl, rfl, rfl, rfl, hk⟩)
