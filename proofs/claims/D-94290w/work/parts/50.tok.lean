/-! the plain law: tokens, read on both sides -/
set_option maxRecDepth 100000
theorem tk_shl {a : Nat} (ha : a < 2 ^ 56) : lN a <<< ((8 : Int32).toInt64 &&& 63) = lN (a * 256) := by
  apply Int64.toBitVec_inj.mp
  rw [Int64.toBitVec_shiftLeft, show ((8 : Int32).toInt64 &&& 63).toBitVec.smod 64 = BitVec.ofNat 64 8 from by decide +kernel]
  apply BitVec.eq_of_toNat_eq
  have hb : (lN a).toBitVec.toNat = a := Nat.mod_eq_of_lt (by omega)
  have hb2 : (lN (a * 256)).toBitVec.toNat = a * 256 := Nat.mod_eq_of_lt (by omega)
  have hk : (BitVec.ofNat 64 8).toNat = 8 := rfl
  rw [hb2, BitVec.shiftLeft_eq', BitVec.toNat_shiftLeft, hb, hk, Nat.shiftLeft_eq]
  exact Nat.mod_eq_of_lt (by omega)
theorem tk_or {a b : Nat} (ha : a < 256) : lN (b * 256) ||| lN a = lN (b * 256 + a) := by
  apply Int64.toBitVec_inj.mp
  rw [Int64.toBitVec_or]
  show BitVec.ofNat 64 (b * 256) ||| BitVec.ofNat 64 a = BitVec.ofNat 64 (b * 256 + a)
  rw [← BitVec.ofNat_or]
  congr 1
  rw [show b * 256 = b <<< 8 from (Nat.shiftLeft_eq b 8).symm, Nat.shiftLeft_add_eq_or_of_lt ha]
def isL (c : Nat) : Prop := 97 ≤ c ∧ c ≤ 122
def isD (c : Nat) : Prop := 48 ≤ c ∧ c ≤ 57
def e256 (b : Nat → Nat) (a : Nat) : Nat → Nat
  | 0 => 0
  | j + 1 => e256 b a j * 256 + b (a + j)
def e27 (b : Nat → Nat) (a : Nat) : Nat → Nat
  | 0 => 0
  | j + 1 => e27 b a j * 27 + (b (a + j) - 96)
def dec (b : Nat → Nat) (a : Nat) : Nat → Nat
  | 0 => 0
  | j + 1 => 10 * dec b a j + (b (a + j) - 48)
theorem e256_lt {b : Nat → Nat} {a : Nat} (hb : ∀ i, b (a + i) < 256) : ∀ j, e256 b a j < 256 ^ j
  | 0 => Nat.one_pos
  | j + 1 => by
    have := e256_lt hb j
    have h2 := hb j
    show e256 b a j * 256 + b (a + j) < 256 ^ (j + 1)
    rw [Nat.pow_succ]
    omega
theorem e27_lt {b : Nat → Nat} {a : Nat} : ∀ j, (∀ i, i < j → isL (b (a + i))) → e27 b a j < 27 ^ j
  | 0, _ => Nat.one_pos
  | j + 1, h => by
    have := e27_lt (b := b) (a := a) j (fun i hi => h i (by omega))
    have h2 := (h j (by omega)).2
    show e27 b a j * 27 + (b (a + j) - 96) < 27 ^ (j + 1)
    rw [Nat.pow_succ]
    omega
theorem dec_lt {b : Nat → Nat} {a : Nat} : ∀ j, (∀ i, i < j → isD (b (a + i))) → dec b a j < 10 ^ j
  | 0, _ => Nat.one_pos
  | j + 1, h => by
    have := dec_lt (b := b) (a := a) j (fun i hi => h i (by omega))
    have h2 := (h j (by omega)).2
    show 10 * dec b a j + (b (a + j) - 48) < 10 ^ (j + 1)
    rw [Nat.pow_succ]
    omega
def TokR (n : Nat) (b : Nat → Nat) (p at0 tk val mny : Int32) (nm : Int64) (to frm kd num sg : Int32) (wd : Int64) : Prop :=
  ∃ P a : Nat, P ≤ n ∧ a ≤ 740 ∧ p = nI P ∧ to = nI P ∧ at0 = nI a ∧ frm = nI a ∧
    ((tk = 0 ∧ kd = 0) ∨ (tk = 4 ∧ kd = 1) ∨ (tk = 3 ∧ kd = 4 ∧ val = sg) ∨
      ∃ j : Nat, a + j = P ∧ mny = nI j ∧ 1 ≤ j ∧
        ((tk = 1 ∧ kd = 2 ∧ j ≤ 6 ∧ (∀ i, i < j → isL (b (a + i))) ∧ nm = lN (e256 b a j) ∧ wd = lN (e27 b a j)) ∨
          (tk = 2 ∧ kd = 3 ∧ j ≤ 8 ∧ (∀ i, i < j → isD (b (a + i))) ∧ ∃ v : Nat, v ≤ 99999999 ∧ val = nI v ∧ num = nI v)))
theorem peek_in {n k : Nat} {b : Nat → Nat} {t1 t14 : Nat → Int32} (h : TP b t1 t14) (hn : n ≤ 740) (hk : k < n) : f6_peekY (nI n) (nI k) t1 = some (nI (b k)) ∧ f14_byteAt (nI k) (nI n) t14 = some (nI (b k)) := by
  obtain ⟨h1, h2, h3⟩ := one_is h (show k < 740 by omega)
  constructor
  · unfold f6_peekY
    rw [if_neg (nI_ge hk (by omega))]
    exact h1
  · unfold f14_byteAt
    rw [if_neg (nI_ge hk (by omega)), gd_t (inb_nI (show k < 740 by omega) (by decide)), lt_is, nI_clamp (by omega), h2]
theorem peek_out {n k : Nat} {t1 t14 : Nat → Int32} (hn : n ≤ k) (hk : k < 2 ^ 31) : f6_peekY (nI n) (nI k) t1 = some (-1) ∧ f14_byteAt (nI k) (nI n) t14 = some 0 := by
  constructor
  · unfold f6_peekY
    rw [if_pos (nI_le hn hk)]
  · unfold f14_byteAt
    rw [if_pos (nI_le hn hk)]
theorem isLet_is {c : Nat} (hc : c < 256) : f6_isLetterY (nI c) = some (if 97 ≤ c ∧ c ≤ 122 then 1 else 0) ∧ f14_isLetter (nI c) = some (if 97 ≤ c ∧ c ≤ 122 then 1 else 0) ∧ f6_isDigitY (nI c) = some (if 48 ≤ c ∧ c ≤ 57 then 1 else 0) ∧ f14_isDigit (nI c) = some (if 48 ≤ c ∧ c ≤ 57 then 1 else 0) := by
  have : ∀ c : Fin 256, f6_isLetterY (nI c.val) = some (if 97 ≤ c.val ∧ c.val ≤ 122 then 1 else 0) ∧ f14_isLetter (nI c.val) = some (if 97 ≤ c.val ∧ c.val ≤ 122 then 1 else 0) ∧ f6_isDigitY (nI c.val) = some (if 48 ≤ c.val ∧ c.val ≤ 57 then 1 else 0) ∧ f14_isDigit (nI c.val) = some (if 48 ≤ c.val ∧ c.val ≤ 57 then 1 else 0) := by decide +kernel
  exact this ⟨c, hc⟩
theorem isLet_no : f6_isLetterY (-1) = some 0 ∧ f14_isLetter 0 = some 0 ∧ f6_isDigitY (-1) = some 0 ∧ f14_isDigit 0 = some 0 := by decide +kernel
theorem run_tail1 {n a j : Nat} {b : Nat → Nat} {t1 t14 : Nat → Int32} (h : TP b t1 t14) (hn : n ≤ 740) (hj : a + j < n) (v f : Int32) (nm : Int64) : f6_runY_j55 (nI n) (nI a) t1 (nI (a + j)) v nm f = some (.inl (f, nI (a + j + 1), (if 8 ≤ j then v else 10 * v + nI (b (a + j)) - 48), (if 6 ≤ j then nm else nm <<< ((8 : Int32).toInt64 &&& 63) ||| lN (b (a + j))))) := by
  have hp := (peek_in h hn hj).1
  have hb := (one_is h (show a + j < 740 by omega)).2.2
  have e1 : nI (a + j) - nI a = nI j := by rw [pk_sub (by omega), show a + j - a = j by omega]
  have e2 : ∀ nm : Int64, f6_runY_j87 (nI n) (nI a) t1 (nI (a + j)) v f nm = some (.inl (f, nI (a + j + 1), (if 8 ≤ j then v else 10 * v + nI (b (a + j)) - 48), nm)) := by
    intro nm
    unfold f6_runY_j87 f6_runY_j120
    rw [lt_is, e1]
    by_cases q : 8 ≤ j
    · rw [if_pos (show (8 : Int32) ≤ nI j from nI_le (a := 8) q (by omega)), if_pos q, lt_is, nI_1]
    · rw [if_neg (show ¬ (8 : Int32) ≤ nI j from nI_ge (b := 8) (by omega) (by decide)), if_neg q, lt_is, hp, bind_is, lt_is, lt_is, lt_is, nI_1]
  unfold f6_runY_j55
  rw [lt_is, e1]
  by_cases q : 6 ≤ j
  · rw [if_pos (show (6 : Int32) ≤ nI j from nI_le (a := 6) q (by omega)), if_pos q, e2]
  · rw [if_neg (show ¬ (6 : Int32) ≤ nI j from nI_ge (b := 6) (by omega) (by decide)), if_neg q, lt_is, hp, bind_is, lt_is, lt_is, e2, nI_l (by omega)]
theorem run_tail14 {a j c : Nat} (hj : a + j < 740) (hc : c < 256) (v f : Int32) (wd : Int64) : f14_go_j272 (nI a) (nI (a + j)) v wd (nI c) f = some (.inl (f, nI (a + j + 1), (if 8 ≤ j then v else 10 * v + nI c - 48), (if 6 ≤ j then wd else 27 * wd + lN c - 96))) := by
  have e1 : nI (a + j) - nI a = nI j := by rw [pk_sub (by omega), show a + j - a = j by omega]
  have e2 : ∀ nm : Int64, f14_go_j307 (nI a) (nI (a + j)) v (nI c) f nm = some (.inl (f, nI (a + j + 1), (if 8 ≤ j then v else 10 * v + nI c - 48), nm)) := by
    intro nm
    unfold f14_go_j307 f14_go_j338
    rw [lt_is, e1]
    by_cases q : 8 ≤ j
    · rw [if_pos (show (8 : Int32) ≤ nI j from nI_le (a := 8) q (by omega)), if_pos q, lt_is, nI_1]
    · rw [if_neg (show ¬ (8 : Int32) ≤ nI j from nI_ge (b := 8) (by omega) (by decide)), if_neg q, lt_is, lt_is, lt_is, lt_is, nI_1]
  unfold f14_go_j272
  rw [lt_is, e1]
  by_cases q : 6 ≤ j
  · rw [if_pos (show (6 : Int32) ≤ nI j from nI_le (a := 6) q (by omega)), if_pos q, e2]
  · rw [if_neg (show ¬ (6 : Int32) ≤ nI j from nI_ge (b := 6) (by omega) (by decide)), if_neg q, lt_is, lt_is, lt_is, lt_is, e2, nI_l (by omega)]
/-- letters and digits read so far, j of them from a on; sm: the first is a letter -/
def RunI (b : Nat → Nat) (a : Nat) (sm : Bool) (j : Nat) (fl : Int32) (v1 v14 : Int32) (nm wd : Int64) : Prop :=
  v1 = v14 ∧ (∀ i, i < j → isL (b (a + i)) ∨ isD (b (a + i))) ∧ (fl = 0 ∨ fl = 1) ∧ (fl = 1 → sm = true → (∀ i, i < j → isL (b (a + i))) ∧ (j ≤ 6 → nm = lN (e256 b a j) ∧ wd = lN (e27 b a j))) ∧ (fl = 1 → sm = false → (∀ i, i < j → isD (b (a + i))) ∧ (j ≤ 8 → v1 = nI (dec b a j)))
def sml (sm : Bool) : Int32 := if sm = true then 1 else 0
def RunJ (b : Nat → Nat) (a n : Nat) (sm : Bool) (k : Nat) (s t : Int32 × Int32 × Int32 × Int64) : Prop := ∃ j fl, a + j + k = n ∧ s.1 = fl ∧ t.1 = fl ∧ s.2.1 = nI (a + j) ∧ t.2.1 = nI (a + j) ∧ RunI b a sm j fl s.2.2.1 t.2.2.1 s.2.2.2 t.2.2.2
def RunP (b : Nat → Nat) (a n : Nat) (sm : Bool) (x y : Int32 × Int32 × Int32 × Int64) : Prop := ∃ j fl, 1 ≤ j ∧ a + j ≤ n ∧ x.1 = fl ∧ y.1 = fl ∧ x.2.1 = nI (a + j) ∧ y.2.1 = nI (a + j) ∧ RunI b a sm j fl x.2.2.1 y.2.2.1 x.2.2.2 y.2.2.2
theorem run_loop {n a : Nat} {b : Nat → Nat} {t1 t14 : Nat → Int32} (h : TP b t1 t14) (hn : n ≤ 740) (ha : a < n) (sm : Bool) (hLD : isL (b a) ∨ isD (b a)) : Ok (whl (fun (s1 : Int32 × Int32 × Int32 × Int64) => f6_runY_s1 (sml sm) (nI n) (nI a) t1 s1.1 s1.2.1 s1.2.2.1 s1.2.2.2) FU ((1 : Int32), nI a, (0 : Int32), (0 : Int64))) (fun x => Ok (whl (fun (s7 : Int32 × Int32 × Int32 × Int64) => f14_go_s7 (nI n) t14 (nI a) (sml sm) s7.1 s7.2.1 s7.2.2.1 s7.2.2.2) FU ((1 : Int32), nI a, (0 : Int32), (0 : Int64))) (fun y => RunP b a n sm x y)) := by
  refine ok_lp2 (RunJ b a n sm) (k := n - a) (by omega) ⟨0, 1, by omega, rfl, rfl, rfl, rfl, rfl, fun i hi => absurd hi (Nat.not_lt_zero _), Or.inr rfl, fun _ _ => ⟨fun i hi => absurd hi (Nat.not_lt_zero _), fun _ => ⟨rfl, rfl⟩⟩, fun _ _ => ⟨fun i hi => absurd hi (Nat.not_lt_zero _), fun _ => rfl⟩⟩ ?_
  rintro k ⟨s1, s2, s3, s4⟩ ⟨u1, u2, u3, u4⟩ ⟨j, fl, hk, e1, e2, e3, e4, hI⟩
  dsimp only at e1 e2 e3 e4 hI ⊢
  subst e1 e2 e3 e4
  unfold f6_runY_s1 f14_go_s7
  by_cases hjn : a + j < n
  · obtain ⟨p1, p14⟩ := peek_in h hn hjn
    have hb := (one_is h (show a + j < 740 by omega)).2.2
    obtain ⟨l1, l14, d1, d14⟩ := isLet_is hb
    rw [p1, p14]
    simp only [bind_is]
    rw [l1, l14]
    simp only [bind_is]
    have hgo : isL (b (a + j)) ∨ isD (b (a + j)) → Ok (f6_runY_j34 (sml sm) (nI n) (nI a) t1 u1 (nI (a + j)) s3 s4) (fun o => Ok (f14_go_j243 t14 (nI a) (sml sm) u1 (nI (a + j)) u3 u4) (fun q => st2 (RunJ b a n sm) (RunP b a n sm) k o q)) := by
      intro hch
      obtain ⟨rfl, hall, hfl, hL, hD⟩ := hI
      have ht14 := (one_is h (show a + j < 740 by omega)).2.1
      -- the tail, for a flag
      have tail : ∀ f' : Int32, (f' = 0 ∨ f' = 1 ∧ u1 = 1 ∧ (sm = true → isL (b (a + j))) ∧ (sm = false → isD (b (a + j)))) → Ok (f6_runY_j55 (nI n) (nI a) t1 (nI (a + j)) s3 s4 f') (fun o => Ok (f14_go_j272 (nI a) (nI (a + j)) s3 u4 (nI (b (a + j))) f') (fun q => st2 (RunJ b a n sm) (RunP b a n sm) k o q)) := by
        intro f' hf'
        rw [run_tail1 h hn hjn, run_tail14 (by omega) hb]
        refine ok_i (ok_i ⟨k - 1, by omega, j + 1, f', by omega, rfl, rfl, by rw [Nat.add_assoc], by rw [Nat.add_assoc], rfl, fun i hi => ?_, ?_, fun h1 hsm => ⟨fun i hi => ?_, fun hj6 => ?_⟩, fun h1 hsm => ⟨fun i hi => ?_, fun hj8 => ?_⟩⟩)
        · by_cases q : i = j
          · subst q; exact hch
          · exact hall i (by omega)
        · rcases hf' with e | ⟨e, -⟩
          · exact Or.inl e
          · exact Or.inr e
        · rcases hf' with e | ⟨-, hu, hl, -⟩
          · rw [e] at h1
            exact absurd h1 (by decide)
          · by_cases q : i = j
            · subst q; exact hl hsm
            · exact (hL hu hsm).1 i (by omega)
        · rcases hf' with e | ⟨-, hu, hl, -⟩
          · rw [e] at h1
            exact absurd h1 (by decide)
          · obtain ⟨g1, g2⟩ := hL hu hsm
            obtain ⟨g3, g4⟩ := g2 (by omega)
            have hbb : ∀ i, i < j → b (a + i) < 256 := fun i hi => (one_is h (show a + i < 740 by omega)).2.2
            have hlt : e256 b a j < 256 ^ j := by
              have key : ∀ m, m ≤ j → e256 b a m < 256 ^ m := by
                intro m
                induction m with
                | zero => exact fun _ => Nat.one_pos
                | succ m ih =>
                  intro hm
                  have i1 := ih (by omega)
                  have i2 := hbb m (by omega)
                  show e256 b a m * 256 + b (a + m) < 256 ^ (m + 1)
                  rw [Nat.pow_succ]
                  omega
              exact key j (Nat.le_refl _)
            have hp : 256 ^ j ≤ 256 ^ 5 := Nat.pow_le_pow_right (by decide) (by omega)
            have hlt2 : e256 b a j < 2 ^ 56 := Nat.lt_of_lt_of_le hlt (Nat.le_trans hp (by decide))
            dsimp only
            rw [if_neg (show ¬ 6 ≤ j by omega), if_neg (show ¬ 6 ≤ j by omega), g3, g4, tk_shl hlt2, tk_or hb]
            refine ⟨rfl, ?_⟩
            have hc := hl hsm
            have hc1 := hc.1
            show (27 : Int64) * lN (e27 b a j) + lN (b (a + j)) - 96 = lN (e27 b a j * 27 + (b (a + j) - 96))
            rw [show (27 : Int64) = lN 27 from rfl, show (96 : Int64) = lN 96 from rfl, lN_mul, lN_add, lN_sub (by omega)]
            congr 1
            omega
        · rcases hf' with e | ⟨-, hu, -, hd⟩
          · rw [e] at h1
            exact absurd h1 (by decide)
          · by_cases q : i = j
            · subst q; exact hd hsm
            · exact (hD hu hsm).1 i (by omega)
        · rcases hf' with e | ⟨-, hu, -, hd⟩
          · rw [e] at h1
            exact absurd h1 (by decide)
          · obtain ⟨g1, g2⟩ := hD hu hsm
            have hc := hd hsm
            have hc1 := hc.1
            dsimp only
            rw [if_neg (show ¬ 8 ≤ j by omega), g2 (by omega)]
            show (10 : Int32) * nI (dec b a j) + nI (b (a + j)) - 48 = nI (10 * dec b a j + (b (a + j) - 48))
            rw [show (10 : Int32) = nI 10 from rfl, show (48 : Int32) = nI 48 from rfl, pk_mul, nI_add, pk_sub (by omega)]
            congr 1
            omega
      unfold f6_runY_j34 f14_go_j243 f6_runY_j54 f14_go_j271
      rw [gd_t (inb_nI (show a + j < 740 by omega) (by decide)), lt_is, nI_clamp (show a + j < 2 ^ 31 by omega), ht14]
      by_cases q : u1 = 0
      · rw [if_pos q, if_pos q]
        exact tail 0 (Or.inl rfl)
      · rw [if_neg q, if_neg q, p1, bind_is, l1, bind_is, l14, bind_is]
        have hu1 : u1 = 1 := hfl.resolve_left q
        by_cases q2 : (if 97 ≤ b (a + j) ∧ b (a + j) ≤ 122 then (1 : Int32) else 0) = sml sm
        · rw [if_pos q2, if_pos q2]
          refine tail 1 (Or.inr ⟨rfl, hu1, fun hs => ?_, fun hs => ?_⟩)
          · subst hs
            by_cases q3 : 97 ≤ b (a + j) ∧ b (a + j) ≤ 122
            · exact q3
            · rw [if_neg q3] at q2
              exact absurd q2 (by decide)
          · subst hs
            by_cases q3 : 97 ≤ b (a + j) ∧ b (a + j) ≤ 122
            · rw [if_pos q3] at q2
              exact absurd q2 (by decide)
            · exact hch.resolve_left q3
        · rw [if_neg q2, if_neg q2]
          exact tail 0 (Or.inl rfl)
    by_cases hl : 97 ≤ b (a + j) ∧ b (a + j) ≤ 122
    · rw [if_pos hl, if_neg (by decide), if_neg (by decide)]
      exact hgo (Or.inl hl)
    · rw [if_neg hl, if_pos rfl, if_pos rfl, d1, d14]
      simp only [bind_is]
      by_cases hd : 48 ≤ b (a + j) ∧ b (a + j) ≤ 57
      · rw [if_pos hd, if_neg (by decide), if_neg (by decide)]
        exact hgo (Or.inr hd)
      · rw [if_neg hd, if_pos rfl, if_pos rfl]
        refine ok_i (ok_i ⟨j, u1, ?_, by omega, rfl, rfl, rfl, rfl, hI⟩)
        by_cases q : j = 0
        · subst q
          rcases hLD with q | q
          · exact (hl q).elim
          · exact (hd q).elim
        · omega
  · obtain ⟨p1, p14⟩ := peek_out (t1 := t1) (t14 := t14) (show n ≤ a + j by omega) (by omega)
    obtain ⟨l1, l14, d1, d14⟩ := isLet_no
    rw [p1, p14, bind_is, l1, bind_is, if_pos rfl, bind_is, d1, bind_is, if_pos rfl, bind_is, l14, bind_is, if_pos rfl, bind_is, d14, bind_is, if_pos rfl]
    exact ok_i (ok_i ⟨j, u1, by omega, by omega, rfl, rfl, rfl, rfl, hI⟩)
theorem space_ok {n P : Nat} {b : Nat → Nat} {t1 t14 : Nat → Int32} (h : TP b t1 t14) (hn : n ≤ 740) (hP : P ≤ n) : Ok (whl (fun (s1 : Int32) => f6_nextY_s1 (nI n) t1 s1) FU (nI P)) (fun x => Ok (whl (fun (s1 : Int32) => f14_go_s1 (nI n) t14 s1) FU (nI P)) (fun y => ∃ P', P ≤ P' ∧ P' ≤ n ∧ x = nI P' ∧ y = nI P')) := by
  refine ok_lp2 (fun k (s t : Int32) => ∃ P', P ≤ P' ∧ P' + k = n ∧ s = nI P' ∧ t = nI P') (k := n - P) (by omega) ⟨P, Nat.le_refl _, by omega, rfl, rfl⟩ ?_
  rintro k s t ⟨P', h1, h2, rfl, rfl⟩
  unfold f6_nextY_s1 f14_go_s1 f6_nextY_j18 f14_go_j39
  by_cases hn' : P' < n
  · obtain ⟨p1, -⟩ := peek_in h hn hn'
    obtain ⟨-, ht, hb⟩ := one_is h (show P' < 740 by omega)
    rw [p1, bind_is, if_neg (nI_ge hn' (by omega))]
    simp (disch := first | assumption | exact inb_nI (by omega) (by omega) | omega | decide) only [gd_t, lt_is, nI_clamp, ht]
    have hgo : Ok (lt (nI P' + (1 : Int32)) fun v19 => some (Sum.inl v19 : Int32 ⊕ Int32)) (fun o => Ok (lt (nI P' + (1 : Int32)) fun v51 => some (Sum.inl v51 : Int32 ⊕ Int32)) (fun q => st2 (fun k (s t : Int32) => ∃ P', P ≤ P' ∧ P' + k = n ∧ s = nI P' ∧ t = nI P') (fun x y => ∃ P', P ≤ P' ∧ P' ≤ n ∧ x = nI P' ∧ y = nI P') k o q)) := by
      rw [lt_is, nI_1]
      exact ok_i (ok_i ⟨k - 1, by omega, P' + 1, by omega, by omega, rfl, rfl⟩)
    by_cases q : nI (b P') = 32
    · rw [if_pos q, if_pos q]
      exact hgo
    · rw [if_neg q, if_neg q, bind_is]
      by_cases q2 : nI (b P') = 10
      · rw [if_pos q2]
        exact hgo
      · rw [if_neg q2]
        exact ok_i (ok_i ⟨P', h1, by omega, rfl, rfl⟩)
  · obtain ⟨p1, -⟩ := peek_out (t1 := t1) (t14 := t14) (show n ≤ P' by omega) (by omega)
    rw [p1, bind_is, if_neg (by decide), bind_is, if_neg (by decide), if_pos (nI_le (show n ≤ P' by omega) (by omega))]
    exact ok_i (ok_i ⟨P', h1, by omega, rfl, rfl⟩)
theorem next_j {n P : Nat} {b : Nat → Nat} {t1 t14 : Nat → Int32} (h : TP b t1 t14) (hn : n ≤ 740) (hP : P ≤ n) (tk val mny kd num sg : Int32) (nm wd : Int64) : Ok (f6_nextY_j78 (nI n) val mny nm t1 (nI P) (nI P) tk) (fun x => Ok (f14_go_j96 (nI n) num sg wd t14 (nI P) (nI P) kd) (fun y => TokR n b x.1 x.2.1 x.2.2.1 x.2.2.2.1 x.2.2.2.2.1 x.2.2.2.2.2 y.1 y.2.1 y.2.2.1 y.2.2.2.1 y.2.2.2.2.1 y.2.2.2.2.2)) := by
  unfold f6_nextY_j78 f14_go_j96
  by_cases hPn : P < n
  · obtain ⟨p1, -⟩ := peek_in h hn hPn
    obtain ⟨-, ht, hb⟩ := one_is h (show P < 740 by omega)
    obtain ⟨l1, l14, d1, d14⟩ := isLet_is hb
    rw [p1, bind_is, if_pos (show 0 ≤ nI (b P) from nI_pos' (by omega)), l1, bind_is, if_pos (nI_lt hPn (by omega)), gd_t (inb_nI (show P < 740 by omega) (by decide)), lt_is, nI_clamp (by omega), ht, l14, bind_is]
    have word : isL (b P) ∨ isD (b P) → Ok (f6_nextY_j111 (nI n) mny nm t1 (nI P) (nI (b P)) (nI P) tk val) (fun x => Ok (f14_go_j198 (nI n) t14 (nI P) (nI (b P)) (nI P) kd sg) (fun y => TokR n b x.1 x.2.1 x.2.2.1 x.2.2.2.1 x.2.2.2.2.1 x.2.2.2.2.2 y.1 y.2.1 y.2.2.1 y.2.2.2.1 y.2.2.2.2.1 y.2.2.2.2.2)) := by
      intro hLD
      have hsml : (if 97 ≤ b P ∧ b P ≤ 122 then (1 : Int32) else 0) = sml (decide (97 ≤ b P ∧ b P ≤ 122)) := by
        unfold sml
        by_cases q : 97 ≤ b P ∧ b P ≤ 122
        · rw [if_pos q, if_pos (decide_eq_true q)]
        · rw [if_neg q, if_neg (fun e => q (of_decide_eq_true e))]
      unfold f6_nextY_j111 f14_go_j198
      rw [l1, l14, bind_is, bind_is, hsml]
      generalize hsm : decide (97 ≤ b P ∧ b P ≤ 122) = sm
      obtain ⟨x, ex, y, ey, j, fl, hj, hjn, c1, c2, c3, c4, rfl2, hall, hfl, hL, hD⟩ := run_loop h hn hPn sm hLD
      obtain ⟨x1, x2, x3, x4⟩ := x
      obtain ⟨y1, y2, y3, y4⟩ := y
      dsimp only at c1 c2 c3 c4 rfl2 hL hD
      subst c1 c2 c3 c4 rfl2
      unfold f6_runY
      rw [ex, bind_is, ey, bind_is]
      have e1 : nI (P + j) - nI P = nI j := by rw [pk_sub (by omega), show P + j - P = j by omega]
      unfold f6_runY_e1_0 f14_go_e7_0 f6_runY_j169 f14_go_j379 f6_runY_j166 f14_go_j376 f6_runY_j169 f14_go_j379
      dsimp only
      simp only [lt_is, e1]
      by_cases q : y1 = 0
      · rw [if_pos q, if_pos q, bind_is]
        exact ok_i (ok_i ⟨P + j, P, by omega, by omega, rfl, rfl, rfl, rfl, Or.inr (Or.inl ⟨rfl, rfl⟩)⟩)
      · have hy1 : y1 = 1 := hfl.resolve_left q
        rw [if_neg q, if_neg q]
        cases sm with
        | true =>
          rw [if_neg (show ¬ sml true = 0 by decide), if_neg (show ¬ sml true = 0 by decide)]
          obtain ⟨g1, g2⟩ := hL hy1 rfl
          by_cases q6 : j ≤ 6
          · have c6 : nI j ≤ (6 : Int32) := nI_le (b := 6) q6 (by decide)
            rw [if_pos c6, if_pos c6, if_neg (show ¬ sml true = 0 by decide), if_neg (show ¬ sml true = 0 by decide), bind_is]
            obtain ⟨g3, g4⟩ := g2 q6
            exact ok_i (ok_i ⟨P + j, P, by omega, by omega, rfl, rfl, rfl, rfl, Or.inr (Or.inr (Or.inr ⟨j, rfl, rfl, hj, Or.inl ⟨rfl, rfl, q6, g1, g3, g4⟩⟩))⟩)
          · have c6 : ¬ nI j ≤ (6 : Int32) := nI_ge (a := 6) (by omega) (by omega)
            rw [if_neg c6, if_neg c6, bind_is]
            exact ok_i (ok_i ⟨P + j, P, by omega, by omega, rfl, rfl, rfl, rfl, Or.inr (Or.inl ⟨rfl, rfl⟩)⟩)
        | false =>
          rw [if_pos (show sml false = 0 by decide), if_pos (show sml false = 0 by decide)]
          obtain ⟨g1, g2⟩ := hD hy1 rfl
          by_cases q8 : j ≤ 8
          · have c8 : nI j ≤ (8 : Int32) := nI_le (b := 8) q8 (by decide)
            rw [if_pos c8, if_pos c8, if_pos (show sml false = 0 by decide), if_pos (show sml false = 0 by decide), bind_is]
            have hd := dec_lt j g1
            have hp : 10 ^ j ≤ 10 ^ 8 := Nat.pow_le_pow_right (by decide) q8
            exact ok_i (ok_i ⟨P + j, P, by omega, by omega, rfl, rfl, rfl, rfl, Or.inr (Or.inr (Or.inr ⟨j, rfl, rfl, hj, Or.inr ⟨rfl, rfl, q8, g1, dec b P j, by omega, g2 q8, g2 q8⟩⟩))⟩)
          · have c8 : ¬ nI j ≤ (8 : Int32) := nI_ge (a := 8) (by omega) (by omega)
            rw [if_neg c8, if_neg c8, bind_is]
            exact ok_i (ok_i ⟨P + j, P, by omega, by omega, rfl, rfl, rfl, rfl, Or.inr (Or.inl ⟨rfl, rfl⟩)⟩)
    by_cases hl : 97 ≤ b P ∧ b P ≤ 122
    · rw [if_pos hl, if_neg (by decide), if_neg (by decide)]
      exact word (Or.inl hl)
    · rw [if_neg hl, if_pos rfl, if_pos rfl, d1, bind_is, d14, bind_is]
      by_cases hd : 48 ≤ b P ∧ b P ≤ 57
      · rw [if_pos hd, if_neg (by decide), if_neg (by decide)]
        exact word (Or.inr hd)
      · rw [if_neg hd, if_pos rfl, if_pos rfl]
        have sign : Ok (f6_nextY_j158 mny nm (nI P) (nI P) (nI (b P)) (3 : Int32)) (fun x => Ok (f14_go_j179 num wd (nI P) (nI P) (nI (b P)) (4 : Int32)) (fun y => TokR n b x.1 x.2.1 x.2.2.1 x.2.2.2.1 x.2.2.2.2.1 x.2.2.2.2.2 y.1 y.2.1 y.2.2.1 y.2.2.2.1 y.2.2.2.2.1 y.2.2.2.2.2)) := by
          unfold f6_nextY_j158 f14_go_j179
          rw [lt_is, lt_is, nI_1]
          exact ok_i (ok_i ⟨P + 1, P, by omega, by omega, rfl, rfl, rfl, rfl, Or.inr (Or.inr (Or.inl ⟨rfl, rfl, rfl⟩))⟩)
        have wrong : Ok (f6_nextY_j158 mny nm (nI P) (nI P) (nI (b P)) (4 : Int32)) (fun x => Ok (f14_go_j179 num wd (nI P) (nI P) (nI (b P)) (1 : Int32)) (fun y => TokR n b x.1 x.2.1 x.2.2.1 x.2.2.2.1 x.2.2.2.2.1 x.2.2.2.2.2 y.1 y.2.1 y.2.2.1 y.2.2.2.1 y.2.2.2.2.1 y.2.2.2.2.2)) := by
          unfold f6_nextY_j158 f14_go_j179
          rw [lt_is, lt_is, nI_1]
          exact ok_i (ok_i ⟨P + 1, P, by omega, by omega, rfl, rfl, rfl, rfl, Or.inr (Or.inl ⟨rfl, rfl⟩)⟩)
        unfold f6_nextY_j153 f14_go_j174
        have eqc : ∀ k : Nat, k < 256 → ((nI (b P) = nI k) = (b P = k)) := fun k hk => propext (nI_eq (by omega) (by omega))
        have eq59 := eqc 59 (by decide)
        have eq40 := eqc 40 (by decide)
        have eq41 := eqc 41 (by decide)
        have eq60 := eqc 60 (by decide)
        have eq61 := eqc 61 (by decide)
        have eq62 := eqc 62 (by decide)
        rw [show (59 : Int32) = nI 59 from rfl, show (40 : Int32) = nI 40 from rfl, show (41 : Int32) = nI 41 from rfl, show (60 : Int32) = nI 60 from rfl, show (61 : Int32) = nI 61 from rfl, show (62 : Int32) = nI 62 from rfl]
        simp only [eq59, eq40, eq41, eq60, eq61, eq62]
        rcases isIn_cc (nI (b P)) (a := 60) (b := 62) rfl rfl (by decide) (by decide) with ⟨e, -, hno⟩ | ⟨e, -, j, hj1, hj2, hj3⟩
        · have hno2 := hno (b P) rfl (by omega)
          rw [e, bind_is]
          rw [if_neg (show ¬ b P = 60 by omega), if_neg (show ¬ b P = 61 by omega), if_neg (show ¬ b P = 62 by omega), if_pos (show (0 : Int32) = 0 from rfl)]
          by_cases q1 : b P = 59
          · rw [if_pos q1, if_pos q1]
            exact sign
          · rw [if_neg q1, if_neg q1]
            by_cases q2 : b P = 40
            · rw [if_pos q2, if_pos q2]
              exact sign
            · rw [if_neg q2, if_neg q2]
              by_cases q3 : b P = 41
              · rw [if_pos q3, if_pos q3]
                exact sign
              · rw [if_neg q3, if_neg q3]
                exact wrong
        · have := (nI_eq (by omega) (by omega)).mp hj3
          subst this
          rw [e, bind_is, if_neg (show ¬ (1 : Int32) = 0 by decide), if_neg (show ¬ b P = 59 by omega), if_neg (show ¬ b P = 40 by omega), if_neg (show ¬ b P = 41 by omega), if_neg (show ¬ b P = 59 by omega)]
          by_cases q1 : b P = 60
          · rw [if_pos q1]
            exact sign
          · rw [if_neg q1]
            by_cases q2 : b P = 61
            · rw [if_pos q2]
              exact sign
            · rw [if_neg q2, if_pos (show b P = 62 by omega)]
              exact sign
  · obtain ⟨p1, -⟩ := peek_out (t1 := t1) (t14 := t14) (show n ≤ P by omega) (by omega)
    rw [p1, bind_is, if_neg (by decide), if_neg (nI_nlt (show n ≤ P by omega) (by omega))]
    exact ok_i (ok_i ⟨P, P, by omega, by omega, rfl, rfl, rfl, rfl, Or.inl ⟨rfl, rfl⟩⟩)
theorem next_ok {n mo P : Nat} {b : Nat → Nat} {t1 t14 : Nat → Int32} (h : TP b t1 t14) (hn : n ≤ 740) (hmo : mo ≤ 740) (hP : P ≤ n) (at0 frm tk val mny kd num sg : Int32) (nm wd : Int64) : Ok (f6_nextY (nI n) (nI mo) (nI P) at0 tk val mny nm t1) (fun x => Ok (f14_go (nI n) (nI mo) (nI P) frm kd num sg wd t14) (fun y => TokR n b x.1 x.2.1 x.2.2.1 x.2.2.2.1 x.2.2.2.2.1 x.2.2.2.2.2 y.1 y.2.1 y.2.2.1 y.2.2.2.1 y.2.2.2.2.1 y.2.2.2.2.2)) := by
  unfold f6_nextY f14_go
  refine ok_b2 (space_ok h hn hP) ?_
  rintro x y ⟨P', h1, h2, rfl, rfl⟩
  unfold f6_nextY_e1_0 f14_go_e1_0
  by_cases q : n ≤ mo
  · rw [if_pos (nI_le q (by omega)), if_pos (nI_le q (by omega))]
    exact next_j h hn h2 tk val mny kd num sg nm wd
  · rw [if_neg (nI_ge (show mo < n by omega) (by omega)), if_neg (nI_ge (show mo < n by omega) (by omega))]
    by_cases q2 : P' < mo
    · rw [if_pos (nI_lt q2 (by omega)), if_pos (nI_lt q2 (by omega))]
      exact next_j h hn h2 tk val mny kd num sg nm wd
    · rw [if_neg (nI_nlt (show mo ≤ P' by omega) (by omega)), if_neg (nI_nlt (show mo ≤ P' by omega) (by omega))]
      exact ok_i (ok_i ⟨P', mo, h2, hmo, rfl, rfl, rfl, rfl, Or.inr (Or.inl ⟨rfl, rfl⟩)⟩)
