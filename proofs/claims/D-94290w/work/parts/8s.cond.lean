/-! the plain law: conditions -/
set_option maxRecDepth 100000
theorem Chg.fro {z : Nat} {S : Nat → Prop} {K : gK} {I I' : gI} {J : gJ} {X X' : gX} {A A' : gI} {Q : gX} (h : Chg z I X A I' X' A') : Fro z S K I J X A Q K I' J X' A' Q := fun a q =>
  ⟨rfl, fun f => h.i f a (Or.inr (Or.inl fun r => r.nz q)), fun _ => rfl, fun f => h.x f a fun r => r.2.1.nz q, h.a a (by unfold Fz at q; unfold Sc; omega), rfl⟩
/-- a condition's object answers b, by its kind -/
def Ev (d z : Nat) (adS : Nat → Nat) (o : Nat) (p : Int32) (K : gK) (I : gI) (J : gJ) (X : gX) (A : gI) (B : gJ) (Q : gX) (n c : Nat) (b : Int32) : Prop :=
  (K c = some (.inl 14) ∧ w18_is d z adS c o p K I J X A B Q n = some (b, K, I, J, X, A, B, Q, n)) ∨ (K c = some (.inl 15) ∧ w19_is d z adS c o p K I J X A B Q n = some (b, K, I, J, X, A, B, Q, n)) ∨ (K c = some (.inl 16) ∧ w20_is d z adS c o p K I J X A B Q n = some (b, K, I, J, X, A, B, Q, n)) ∨ (K c = some (.inl 17) ∧ w21_is d z adS c o p K I J X A B Q n = some (b, K, I, J, X, A, B, Q, n)) ∨ (K c = some (.inl 18) ∧ w22_is d z adS c o p K I J X A B Q n = some (b, K, I, J, X, A, B, Q, n))
theorem Ev.go {d z : Nat} {adS : Nat → Nat} {o : Nat} {p : Int32} {K : gK} {I : gI} {J : gJ} {X : gX} {A : gI} {B : gJ} {Q : gX} {n c : Nat} {b : Int32} (h : Ev d z adS o p K I J X A B Q n c b) {β : Type} (F : Int32 × gK × gI × gJ × gX × gI × gJ × gX × Nat → Option β) :
    (if K c = some (.inl 14) then (w18_is d z adS c o p K I J X A B Q n).bind F else if K c = some (.inl 15) then (w19_is d z adS c o p K I J X A B Q n).bind F else if K c = some (.inl 16) then (w20_is d z adS c o p K I J X A B Q n).bind F else if K c = some (.inl 17) then (w21_is d z adS c o p K I J X A B Q n).bind F else gdp (K c = some (.inl 18)) ((w22_is d z adS c o p K I J X A B Q n).bind F)) = F (b, K, I, J, X, A, B, Q, n) := by
  rcases h with ⟨h, e⟩ | ⟨h, e⟩ | ⟨h, e⟩ | ⟨h, e⟩ | ⟨h, e⟩
  · rw [if_pos h, e, bind_is]
  · rw [if_neg (by rw [h]; decide), if_pos h, e, bind_is]
  · rw [if_neg (by rw [h]; decide), if_neg (by rw [h]; decide), if_pos h, e, bind_is]
  · rw [if_neg (by rw [h]; decide), if_neg (by rw [h]; decide), if_neg (by rw [h]; decide), if_pos h, e, bind_is]
  · rw [if_neg (by rw [h]; decide), if_neg (by rw [h]; decide), if_neg (by rw [h]; decide), if_neg (by rw [h]; decide), gdp_t h, e, bind_is]
theorem cond_eq {z m n : Nat} {adS : Nat → Nat} {S : Nat → Prop} {K : gK} {I : gI} {J : gJ} {X : gX} {A : gI} {B : gJ} {Q : gX} {w night : Nat → Int32} (hS0 : Sh K X z 0 rows0) (hm : m < 60) (hr : A (z + 119) m = night (4 * m) ∧ A (z + 120) m = night (4 * m + 1) ∧ A (z + 121) m = night (4 * m + 2) ∧ A (z + 122) m = night (4 * m + 3)) : ∀ (d c t D E : Nat), CondX z S K I X w d c t → d ≤ D → d ≤ E → ∃ b : Int32, Ev D z adS z (nI m) K I J X A B Q n c b ∧ f14_isSo E (nI t) (nI m) w night = some b
  | 0, _, _, _, _, h, _, _ => h.elim
  | d + 1, c, t, 0, _, _, h, _ => absurd h (by omega)
  | d + 1, c, t, _, 0, _, _, h => absurd h (by omega)
  | d + 1, c, t, D + 1, E + 1, h, hD, hE => by
    obtain ⟨h1, h2, h3, h⟩ := h
    have hKz := hS0.1
    obtain ⟨x46, l46⟩ := hS0.len 19 rfl
    obtain ⟨x47, l47⟩ := hS0.len 20 rfl
    obtain ⟨x48, l48⟩ := hS0.len 21 rfl
    obtain ⟨x49, l49⟩ := hS0.len 22 rfl
    have h60 : inb (nI m) 60 := inb_nI hm (by decide)
    have hcm : (nI m).toNatClampNeg = m := nI_clamp (by omega)
    have c0 : (nI (550 + 4 * t)).toNatClampNeg = 550 + 4 * t := nI_clamp (by omega)
    have c1 : (nI (550 + 4 * t + 1)).toNatClampNeg = 551 + 4 * t := by rw [nI_clamp (by omega)]; omega
    have c2 : (nI (550 + 4 * t + 2)).toNatClampNeg = 552 + 4 * t := by rw [nI_clamp (by omega)]; omega
    have c3 : (nI (550 + 4 * t + 3)).toNatClampNeg = 553 + 4 * t := by rw [nI_clamp (by omega)]; omega
    have i0 : inb (nI (550 + 4 * t)) 800 := inb_nI (by omega) (by decide)
    have i1 : inb (nI (550 + 4 * t + 1)) 800 := inb_nI (by omega) (by decide)
    have i2 : inb (nI (550 + 4 * t + 2)) 800 := inb_nI (by omega) (by decide)
    have i3 : inb (nI (550 + 4 * t + 3)) 800 := inb_nI (by omega) (by decide)
    have e4 : (4 : Int32) * nI t = nI (4 * t) := by rw [show (4 : Int32) = nI 4 from rfl, pk_mul]
    have e550 : (550 : Int32) + nI (4 * t) = nI (550 + 4 * t) := by rw [show (550 : Int32) = nI 550 from rfl, nI_add]
    have p1 : nI (550 + 4 * t) + (1 : Int32) = nI (550 + 4 * t + 1) := nI_1 _
    have p2 : nI (550 + 4 * t) + (2 : Int32) = nI (550 + 4 * t + 2) := by rw [show (2 : Int32) = nI 2 from rfl, nI_add]
    have p3 : nI (550 + 4 * t) + (3 : Int32) = nI (550 + 4 * t + 3) := by rw [show (3 : Int32) = nI 3 from rfl, nI_add]
    rw [f14_isSo_s]
    unfold fb14_isSo
    simp only [lt_is, e4, e550, p1, p2, gd_t i0, gd_t i1, gd_t i2, c0, c1, c2]
    rcases h with ⟨a1, a2, a, ta, a3, a4, a5⟩ | ⟨a1, a2, a, ta, b, tb, a3, a4, a5, a6, a7, a8⟩ | ⟨a1, a2, a, ta, b, tb, a3, a4, a5, a6, a7, a8⟩ | ⟨a1, a2⟩ | ⟨a1, a2, wh, a3, a4, a5, a6, a7⟩
    · obtain ⟨v, ev, es⟩ := cond_eq hS0 hm hr d a ta D E a5 (by omega) (by omega)
      rw [a2, if_pos rfl, a4, es, bind_is]
      refine ⟨if v = 0 then 1 else 0, Or.inl ⟨a1, ?_⟩, ?_⟩
      · rw [w18_is_s]
        unfold wb18_is
        rw [gdp_t a1, lt_is, a3, bind_is]
        refine (ev.go _).trans ?_
        dsimp only
        by_cases q : v = 0
        · rw [if_pos q, if_pos q]
        · rw [if_neg q, if_neg q]
      · by_cases q : v = 0
        · rw [if_pos q, if_pos q]
        · rw [if_neg q, if_neg q]
    · obtain ⟨v, ev, es⟩ := cond_eq hS0 hm hr d a ta D E a7 (by omega) (by omega)
      obtain ⟨v2, ev2, es2⟩ := cond_eq hS0 hm hr d b tb D E a8 (by omega) (by omega)
      rw [a2, if_neg (show ¬ (2 : Int32) = 1 by decide), if_pos rfl, a5, a6, es, bind_is, es2]
      refine ⟨if v = 0 then 0 else if v2 = 0 then 0 else 1, Or.inr (Or.inr (Or.inr (Or.inl ⟨a1, ?_⟩))), ?_⟩
      · rw [w21_is_s]
        unfold wb21_is
        rw [gdp_t a1, lt_is, a3, bind_is]
        refine (ev.go _).trans ?_
        dsimp only
        by_cases q : v = 0
        · rw [if_pos q, if_pos q]
          unfold w21_is_j28
          first | rfl | exact gdp_t (by decide)
        · rw [if_neg q, if_neg q, gdp_t a1, lt_is, a4, bind_is]
          refine (ev2.go _).trans ?_
          dsimp only
          by_cases q2 : v2 = 0
          · rw [if_pos q2, if_pos q2]
            unfold w21_is_j28
            first | rfl | exact gdp_t (by decide)
          · rw [if_neg q2, if_neg q2]
      · unfold f14_isSo_j104
        by_cases q : v = 0
        · rw [if_pos q, if_pos q]
        · rw [if_neg q, if_neg q, bind_is]
          by_cases q2 : v2 = 0
          · rw [if_pos q2, if_pos q2]
          · rw [if_neg q2, if_neg q2]
    · obtain ⟨v, ev, es⟩ := cond_eq hS0 hm hr d a ta D E a7 (by omega) (by omega)
      obtain ⟨v2, ev2, es2⟩ := cond_eq hS0 hm hr d b tb D E a8 (by omega) (by omega)
      rw [a2, if_neg (show ¬ (3 : Int32) = 1 by decide), if_neg (show ¬ (3 : Int32) = 2 by decide), if_pos rfl, a5, a6, es, bind_is, es2]
      refine ⟨if v = 0 then (if v2 = 0 then 0 else 1) else 1, Or.inr (Or.inr (Or.inr (Or.inr ⟨a1, ?_⟩))), ?_⟩
      · rw [w22_is_s]
        unfold wb22_is
        rw [gdp_t a1, lt_is, a3, bind_is]
        refine (ev.go _).trans ?_
        dsimp only
        by_cases q : v = 0
        · rw [if_pos q, if_pos q, gdp_t a1, lt_is, a4, bind_is]
          refine (ev2.go _).trans ?_
          dsimp only
          by_cases q2 : v2 = 0
          · rw [if_pos q2, if_pos q2]
          · rw [if_neg q2, if_neg q2]
            unfold w22_is_j24
            first | rfl | exact gdp_t (by decide)
        · rw [if_neg q, if_neg q]
          unfold w22_is_j24
          first | rfl | exact gdp_t (by decide)
      · unfold f14_isSo_j126
        by_cases q : v = 0
        · rw [if_pos q, if_pos q, bind_is]
          by_cases q2 : v2 = 0
          · rw [if_pos q2, if_pos q2]
          · rw [if_neg q2, if_neg q2]
        · rw [if_neg q, if_neg q]
    · have c42 : (nI (4 * m + 2)).toNatClampNeg = 4 * m + 2 := nI_clamp (by omega)
      rw [a2, if_neg (show ¬ (4 : Int32) = 1 by decide), if_neg (show ¬ (4 : Int32) = 2 by decide), if_neg (show ¬ (4 : Int32) = 3 by decide), if_pos rfl, show (4 : Int32) = nI 4 from rfl, pk_mul, show (2 : Int32) = nI 2 from rfl, nI_add, gd_t (inb_nI (show 4 * m + 2 < 240 by omega) (by decide)), c42]
      refine ⟨if night (4 * m + 2) = 0 then 1 else 0, Or.inr (Or.inr (Or.inl ⟨a1, ?_⟩)), ?_⟩
      · rw [w20_is_s]
        unfold wb20_is
        rw [gdp_t hKz, lt_is, x48, bind_is, l48, bind_is, gdp_t h60, lt_is, hcm, hr.2.2.1]
        by_cases q : night (4 * m + 2) = 0
        · rw [if_pos q, if_pos q]
        · rw [if_neg q, if_neg q]
      · by_cases q : night (4 * m + 2) = 0
        · rw [if_pos q, if_pos q]
        · rw [if_neg q, if_neg q]
    · -- what is counted
      have hof : ∃ v : Int32, w19_of z adS c z (nI m) K I J X A B Q n = some (v, K, I, J, X, A, B, Q, n) ∧ (if nI wh = 0 then f14_isSo_j173 w (nI (550 + 4 * t)) (w (552 + 4 * t)) (nI m) else gd (inb ((4 : Int32) * nI m + nI wh - 1) 240) (f14_isSo_j173 w (nI (550 + 4 * t)) (w (552 + 4 * t)) (night ((4 : Int32) * nI m + nI wh - 1).toNatClampNeg))) = f14_isSo_j173 w (nI (550 + 4 * t)) (w (552 + 4 * t)) v := by
        unfold w19_of
        rw [gdp_t a1, lt_is, a4]
        have hnw : 1 ≤ wh → ((4 : Int32) * nI m + nI wh - 1) = nI (4 * m + wh - 1) := fun h => by
          rw [show (4 : Int32) = nI 4 from rfl, pk_mul, nI_add, show (1 : Int32) = nI 1 from rfl, pk_sub (by omega)]
        rcases (show wh = 0 ∨ wh = 1 ∨ wh = 2 ∨ wh = 3 ∨ wh = 4 by omega) with rfl | rfl | rfl | rfl | rfl
        · exact ⟨nI m, by rw [if_pos (show nI 0 = 0 from rfl)], by rw [if_pos (show nI 0 = 0 from rfl)]⟩
        · refine ⟨A (z + 119) m, ?_, ?_⟩
          · rw [if_neg (show ¬ nI 1 = 0 by decide), if_pos (show nI 1 = 1 from rfl), gdp_t hKz, lt_is, x46, bind_is, l46, bind_is, gdp_t h60, lt_is, hcm]
          · rw [if_neg (show ¬ nI 1 = 0 by decide), hnw (by decide), gd_t (inb_nI (by omega) (by decide)), nI_clamp (by omega), hr.1]
            rfl
        · refine ⟨A (z + 120) m, ?_, ?_⟩
          · rw [if_neg (show ¬ nI 2 = 0 by decide), if_neg (show ¬ nI 2 = 1 by decide), if_pos (show nI 2 = 2 from rfl), gdp_t hKz, lt_is, x47, bind_is, l47, bind_is, gdp_t h60, lt_is, hcm]
          · rw [if_neg (show ¬ nI 2 = 0 by decide), hnw (by decide), gd_t (inb_nI (by omega) (by decide)), nI_clamp (by omega), hr.2.1]
            rfl
        · refine ⟨A (z + 121) m, ?_, ?_⟩
          · rw [if_neg (show ¬ nI 3 = 0 by decide), if_neg (show ¬ nI 3 = 1 by decide), if_neg (show ¬ nI 3 = 2 by decide), if_pos (show nI 3 = 3 from rfl), gdp_t hKz, lt_is, x48, bind_is, l48, bind_is, gdp_t h60, lt_is, hcm]
          · rw [if_neg (show ¬ nI 3 = 0 by decide), hnw (by decide), gd_t (inb_nI (by omega) (by decide)), nI_clamp (by omega), hr.2.2.1]
            rfl
        · refine ⟨A (z + 122) m, ?_, ?_⟩
          · rw [if_neg (show ¬ nI 4 = 0 by decide), if_neg (show ¬ nI 4 = 1 by decide), if_neg (show ¬ nI 4 = 2 by decide), if_neg (show ¬ nI 4 = 3 by decide), gdp_t hKz, lt_is, x49, bind_is, l49, bind_is, gdp_t h60, lt_is, hcm]
          · rw [if_neg (show ¬ nI 4 = 0 by decide), hnw (by decide), gd_t (inb_nI (by omega) (by decide)), nI_clamp (by omega), hr.2.2.2]
            rfl
      obtain ⟨v, ev, es⟩ := hof
      rw [a2, if_neg (show ¬ (5 : Int32) = 1 by decide), if_neg (show ¬ (5 : Int32) = 2 by decide), if_neg (show ¬ (5 : Int32) = 3 by decide), if_neg (show ¬ (5 : Int32) = 4 by decide), a5]
      have ej : f14_isSo_j173 w (nI (550 + 4 * t)) (w (552 + 4 * t)) v = some (if w (553 + 4 * t) = 60 then (if w (552 + 4 * t) ≤ v then 0 else 1) else if w (553 + 4 * t) = 61 then (if v = w (552 + 4 * t) then 1 else 0) else if v ≤ w (552 + 4 * t) then 0 else 1) := by
        unfold f14_isSo_j173
        simp only [lt_is, p3, gd_t i3, c3]
        by_cases q : w (553 + 4 * t) = 60
        · rw [if_pos q, if_pos q]
          by_cases q2 : w (552 + 4 * t) ≤ v
          · rw [if_pos q2, if_pos q2]
          · rw [if_neg q2, if_neg q2]
        · rw [if_neg q, if_neg q]
          by_cases q1 : w (553 + 4 * t) = 61
          · rw [if_pos q1, if_pos q1]
            by_cases q2 : v = w (552 + 4 * t)
            · rw [if_pos q2, if_pos q2]
            · rw [if_neg q2, if_neg q2]
          · rw [if_neg q1, if_neg q1]
            by_cases q2 : v ≤ w (552 + 4 * t)
            · rw [if_pos q2, if_pos q2]
            · rw [if_neg q2, if_neg q2]
      refine ⟨_, Or.inr (Or.inl ⟨a1, ?_⟩), es.trans ej⟩
      rw [w19_is_s]
      unfold wb19_is
      rw [gdp_t a1, ev, bind_is]
      dsimp only
      rw [gdp_t a1]
      simp only [lt_is, a6, a7]
      by_cases q : w (553 + 4 * t) = 60
      · rw [if_pos q, if_pos q]
        by_cases q2 : w (552 + 4 * t) ≤ v
        · rw [if_pos q2, if_pos q2]
        · rw [if_neg q2, if_neg q2]
      · rw [if_neg q, if_neg q]
        by_cases q1 : w (553 + 4 * t) = 61
        · rw [if_pos q1, if_pos q1]
          by_cases q2 : v = w (552 + 4 * t)
          · rw [if_pos q2, if_pos q2]
          · rw [if_neg q2, if_neg q2]
        · rw [if_neg q1, if_neg q1]
          by_cases q2 : v ≤ w (552 + 4 * t)
          · rw [if_pos q2, if_pos q2]
          · rw [if_neg q2, if_neg q2]
