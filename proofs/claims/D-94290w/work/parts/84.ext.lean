/-! new objects leave what stands; man, cell -/
set_option maxRecDepth 100000
def Ext (K K' : gK) : Prop := ∀ a, K a ≠ none → K' a = K a
theorem Sh.ext {K K' : gK} {X : gX} {a ci : Nat} {rows : List (Nat × Nat × Nat × Nat)} (h : Sh K X a ci rows) (e : Ext K K') : Sh K' X a ci rows := by
  refine ⟨(e a (by rw [h.1]; exact fun h => nomatch h)).trans h.1, fun k q hq => ?_⟩
  obtain ⟨a1, a2⟩ := h.2 k q hq
  exact ⟨(e _ (by rw [a1]; exact fun h => nomatch h)).trans a1, a2⟩
theorem ke {K K' : gK} {a : Nat} {v : Nat ⊕ Nat × Nat} (e : Ext K K') (h : K a = some v) : K' a = some v := (e a (by rw [h]; exact fun h => nomatch h)).trans h
theorem IS.ext {z : Nat} {K K' : gK} {X : gX} {Q : gX} (h : IS z K X Q) (e : Ext K K') (hy : ∀ a, K' a = some (.inl 3) → K a = some (.inl 3)) : IS z K' X Q := by
  obtain ⟨⟨a1, a2, a3⟩, ⟨b1, b2⟩, ⟨c1, c2⟩, ⟨d1, d2⟩, ⟨e1, e2⟩, ⟨⟨f1, f2, f3, f4⟩, f5⟩, g, ⟨i1, i2⟩, ⟨j1, j2⟩, ⟨k1, k2⟩, ⟨l1, l2⟩, ⟨m1, m2⟩, ⟨n1, n2⟩, ⟨o1, o2⟩, ⟨p1, p2⟩, q1, q2, q3, q4⟩ := h
  exact ⟨⟨a1.ext e, a2.ext e, ke e a3⟩, ⟨ke e b1, b2⟩, ⟨c1.ext e, c2⟩, ⟨d1.ext e, d2⟩, ⟨e1.ext e, e2⟩, ⟨⟨f1.ext e, f2.ext e, f3.ext e, f4.ext e⟩, f5⟩, fun j hj => ⟨ke e (g j hj).1, (g j hj).2⟩, ⟨ke e i1, i2⟩, ⟨ke e j1, j2⟩, ⟨ke e k1, k2⟩, ⟨l1.ext e, l2⟩, ⟨m1.ext e, m2⟩, ⟨n1.ext e, n2⟩, ⟨o1.ext e, o2⟩, ⟨p1.ext e, p2⟩, fun j hj => ⟨ke e (q1 j hj).1, (q1 j hj).2⟩, fun y hy' => (q2 y (hy y hy')).ext e, fun j s hj hs => ⟨(q3 j s hj hs).1, (q3 j s hj hs).2.ext e⟩, q4⟩
theorem IS.o {z : Nat} {K : gK} {X : gX} {Q : gX} (h : IS z K X Q) : ISx z K X Q := h.2.2.2.2.2.2.2
theorem StateAt.ext {z s : Nat} {S : Nat → Prop} {K K' : gK} {I : gI} {J : gJ} {X : gX} {A : gI} {Q : gX} {w : Nat → Int32} {nm : Nat → Int64} (h : StateAt z S K I J X A Q s w nm) (e : Ext K K') (hF : ∀ a, Fz z S a → K a ≠ none) : StateAt z S K' I J X A Q s w nm :=
  h.fr (fun a ha => ⟨e a (hF a ha), fun _ => rfl, fun _ => rfl, fun _ => rfl, rfl, rfl⟩) rfl rfl rfl
/-- the frozen places are there -/
theorem ToldS.F {z : Nat} {S : Nat → Prop} {K : gK} {I : gI} {J : gJ} {X : gX} {A : gI} {B : gJ} {Q : gX} {w : Nat → Int32} {n : Nat} (h : ToldS z S K I J X A B Q w) (hf : freshz z K n) (hn : z + 172 ≤ n) : ∀ a, Fz z S a → K a ≠ none := by
  intro a ha
  rcases ha with h1 | h1
  · exact hf.2.2 a (by omega) (by omega)
  · exact (h.1 a h1.2).1
theorem freshz.le {z n : Nat} {K : gK} {X : gX} {Q : gX} (h : freshz z K n) (hI : IS z K X Q) : z + 172 ≤ n := by
  have h1 := hI.1.2.2
  by_cases q : z + 172 ≤ n
  · exact q
  · exact absurd (h.2.1 (z + 171) (by omega)) (by rw [h1]; exact fun h => nomatch h)
theorem Told.ext {z n : Nat} {K K' : gK} {I : gI} {J : gJ} {X : gX} {A : gI} {B : gJ} {Q : gX} {w : Nat → Int32} (h : Told z K I J X A B Q w) (hf : freshz z K n) (hI : IS z K X Q) (e : Ext K K') : Told z K' I J X A B Q w := by
  obtain ⟨S, h⟩ := h.ex
  exact ToldS.t (S := S) (h.fr (fun a ha => ⟨e a (h.F hf (hf.le hI) a ha), fun _ => rfl, fun _ => rfl, fun _ => rfl, rfl, rfl⟩) (fun a ha => e a (h.1 a ha).1) (fun _ _ => rfl) (fun _ _ => rfl) rfl rfl rfl h.2.1 rfl rfl rfl rfl (fun k s _ _ hk _ => ⟨e s (by rw [hk]; exact fun h => nomatch h), rfl, rfl, rfl⟩))
theorem pFire.ext {K K' : gK} {i304 i305 : Nat → Int32} {has : Int32} {xy : Option Nat} {fu we bu : Nat → Int32} {was fc fr : Int32} {cell : Nat → Int32} (h : pFire K i304 i305 has xy fu we bu was fc fr cell) (e : Ext K K') : pFire K' i304 i305 has xy fu we bu was fc fr cell := by
  rcases h with h | ⟨h1, h2, y, C, R, h3, h4, h5⟩
  · exact Or.inl h
  · exact Or.inr ⟨h1, h2, y, C, R, h3, ke e h4, h5⟩
theorem ny_new {K : gK} {n : Nat} {v : Nat ⊕ Nat × Nat} (hv : v ≠ .inl 3) : ∀ a, a_up K n (some v) a = some (.inl 3) → K a = some (.inl 3) := by
  intro a h
  unfold a_up at h
  by_cases q : a = n
  · rw [if_pos q] at h
    exact absurd (Option.some.inj h) hv
  · rwa [if_neg q] at h
theorem ext_new {z n : Nat} {K : gK} {v : Nat ⊕ Nat × Nat} (h : freshz z K n) : Ext K (a_up K n (some v)) := by
  intro a ha
  unfold a_up
  by_cases q : a = n
  · exact absurd (by rw [q]; exact h.2.1 n (Nat.le_refl _)) ha
  · rw [if_neg q]
theorem freshz.new {z n : Nat} {K : gK} {v : Nat ⊕ Nat × Nat} (h : freshz z K n) : freshz z (a_up K n (some v)) (n + 1) := by
  refine ⟨Nat.le_succ_of_le h.1, fun a ha => ?_, fun a ha hn => ?_⟩
  · unfold a_up
    rw [if_neg (by omega)]
    exact h.2.1 a (by omega)
  · unfold a_up
    by_cases q : a = n
    · rw [if_pos q]; exact fun h => nomatch h
    · rw [if_neg q]; exact h.2.2 a ha (by omega)
theorem must0 {zz : Nat} {adS : Nat → Nat} {K : gK} {I : gI} {J : gJ} {X : gX} {A : gI} {B : gJ} {Q : gX} {n : Nat} (hf : freshz zz K n) (hk : ∃ a, K a ≠ none) : w1_must zz adS 0 K I J X A B Q n = some (.inl n, a_up K n (some (.inl 19)), I, J, X, A, B, Q, n + 1) := by
  unfold w1_must
  rw [gdp_t hk, if_pos rfl, gdp_t hf, gdp_t (by decide)]
  simp only [lt_is]
  rw [gdp_t (by unfold a_up; exact if_pos rfl), gdp_t (by decide)]
theorem must1 {zz : Nat} {adS : Nat → Nat} {K : gK} {I : gI} {J : gJ} {X : gX} {A : gI} {B : gJ} {Q : gX} {n : Nat} (hk : ∃ a, K a ≠ none) : w1_must zz adS 1 K I J X A B Q n = some (.inr (), K, I, J, X, A, B, Q, n) := by
  unfold w1_must
  rw [gdp_t hk, if_neg (by decide), gdp_t (by decide)]
/-- what a call that may refuse leaves on PailRow's side: the answer is thrown or laid in the law's array -/
def Ans (z : Nat) (K : gK) (I : gI) (J : gJ) (X : gX) (A : gI) (B : gJ) (Q : gX) (n : Nat) (th b : Int32) (x : Int32 × gK × gI × gJ × gX × gI × gJ × gX × Nat) : Prop :=
  (th = 1 ∧ x = (1, a_up K n (some (.inl 19)), I, J, X, A, B, Q, n + 1)) ∨ (th = 0 ∧ x = (0, K, I, J, X, A, a_up B (z + 171) (vp_updL (B (z + 171)) (0 : Int32).toNatClampNeg b.toInt64), Q, n))
theorem man_eq {z y n M C R P : Nat} {adS : Nat → Nat} {K : gK} {I : gI} {J : gJ} {X : gX} {A : gI} {B : gJ} {Q : gX} {w : Nat → Int32} {bg : Int32} (hfr : freshz z K n) (hIS : IS z K X Q) (hy : X 200 (z + 7) = some y) (hsh : Sh K X y 3 rows3) (hm : ∀ j m, Q (y + 1) j = some m → K m = some (.inl 12)) (hbg : bg = 0 ∨ bg = 1) (hY : YV M C R P (fun k => I k y) (A (y + 2)) (A (y + 3)) (Q (y + 1)) I (layF bg w)) (p q th : Int32) :
    Ok (w0_man z adS z p q (z + 171) K I J X A B Q n) (fun x => Ok (f14_man p q th bg w) (fun t => t.2.2.1 = 1 ∧ t.2.2.2 = layF bg w ∧ Ans z K I J X A B Q n t.2.1 t.1 x)) := by
  obtain ⟨⟨hS0, -, hL⟩, ⟨hK7, hX9⟩, -⟩ := hIS
  have hk : ∃ a, K a ≠ none := ⟨z, by rw [hS0.1]; exact fun h => nomatch h⟩
  obtain ⟨⟨hM, -⟩, ⟨g3, w0, -⟩, -, -, hmen, -⟩ := hY
  have hlen : alen K (z + 171) 3 = some 1 := by
    unfold alen
    rw [hL]
    exact if_pos rfl
  have hmenl : alen K (y + 1) 4 = some 12 := by
    unfold alen
    rw [(hsh.2 0 _ rfl).1]
    exact if_pos rfl
  unfold w0_man w1_man f14_man
  rw [gdp_t hk, gdp_t hS0.1, gdp_t (by decide), gdp_t hk, hy, bind_is, gdp_t hS0, gdp_t hsh, gdp_t hK7, gdp_t hX9, lay_ok hbg, bind_is]
  have hbad : ∀ (j : Option ((Nat ⊕ Int32) × gK × gI × gJ × gX × gI × gJ × gX × Nat)), j = w1_man_j21 z adS z p q K n I J X A B Q → Ok (j.bind fun r2 => trs r2.1 (fun b5 => gdp (r2.2.1 b5 = some (.inl 19)) <| gdp ((0 + 1) ≤ 1 ∧ (0 + 6) ≤ 6) <| some ((1 : Int32), r2.2.1, r2.2.2.1, r2.2.2.2.1, r2.2.2.2.2.1, r2.2.2.2.2.2.1, r2.2.2.2.2.2.2.1, r2.2.2.2.2.2.2.2.1, r2.2.2.2.2.2.2.2.2)) fun v4 => lt (v4.toInt64) fun v8 => (alen r2.2.1 (z + 171) 3).bind fun n9 => gdp (inb (0 : Int32) n9) <| lt (a_up r2.2.2.2.2.2.2.1 (z + 171) (vp_updL (r2.2.2.2.2.2.2.1 (z + 171)) (0 : Int32).toNatClampNeg v8)) fun Bm11 => gdp ((0 + 1) ≤ 1 ∧ (0 + 6) ≤ 6) <| some ((0 : Int32), r2.2.1, r2.2.2.1, r2.2.2.2.1, r2.2.2.2.2.1, r2.2.2.2.2.2.1, Bm11, r2.2.2.2.2.2.2.2.1, r2.2.2.2.2.2.2.2.2)) (fun x => Ok (f14_man_j25 ((1 : Int32), layF bg w) th) (fun t => t.2.2.1 = 1 ∧ t.2.2.2 = layF bg w ∧ Ans z K I J X A B Q n t.2.1 t.1 x)) := by
    rintro j rfl
    have h19 : (a_up K n (some (.inl 19))) n = some (.inl 19) := by unfold a_up; exact if_pos rfl
    unfold w1_man_j21 w1_man_j22 f14_man_j25 f14_refuse
    rw [gdp_t (by decide), must0 hfr hk, bind_is]
    dsimp only [trs]
    rw [gdp_t h19, gdp_t (by decide), bind_is]
    dsimp only [trs]
    rw [gdp_t h19, gdp_t (by decide), bind_is]
    exact ok_i (ok_i ⟨rfl, rfl, Or.inl ⟨rfl, rfl⟩⟩)
  have e3 : I 303 y = nI M := g3
  rw [e3, men_is, bind_is]
  dsimp only
  have hman : (f1_isMan p (nI M) = some 1 ∧ ∃ c, c < M ∧ p = nI c) ∨ (f1_isMan p (nI M) = some 0 ∧ ∀ c, c < M → ¬ p = nI c) := by
    unfold f1_isMan
    rw [lt_is]
    rcases isIn_cnt p (C := M) (by omega) with ⟨e, c, hc, e2⟩ | ⟨e, -, hno⟩
    · rw [e, bind_is, gd_t (by decide)]
      exact Or.inl ⟨rfl, c, hc, e2⟩
    · rw [e, bind_is, gd_t (by decide)]
      exact Or.inr ⟨rfl, fun c hc => hno c hc⟩
  rcases hman with ⟨e, m, hmM, rfl⟩ | ⟨e, hno⟩
  · rw [e, bind_is, if_neg (show ¬ (1 : Int32) = 0 by decide), if_neg (nI_pos (show m < 2 ^ 31 by omega)), if_neg (show ¬ layF bg w 0 ≤ nI m by rw [w0]; exact nI_ge hmM (by omega))]
    rcases isIn_cc q (a := 0) (b := 2) (A := 0) (B := 2) rfl rfl (by decide) (by decide) with ⟨u, u', -⟩ | ⟨u, u', c, -, hc, rfl⟩
    · rw [u, u', bind_is, bind_is, if_pos rfl, if_pos rfl]
      exact hbad _ rfl
    · rw [u, u', bind_is, bind_is, if_neg (show ¬ (1 : Int32) = 0 by decide), if_neg (show ¬ (1 : Int32) = 0 by decide), manOf_is (show m < 12 by omega) (show c < 3 by omega), bind_is]
      obtain ⟨a, h, pc, pw, ha, -, -, -, c1, d1, c2, d2, c3, d3⟩ := hmen m hmM
      have hka := hm m a ha
      have hmc : (nI m).toNatClampNeg = m := nI_clamp (by omega)
      unfold w1_man_j22
      rw [gdp_t (by decide), must1 hk, bind_is]
      dsimp only [trs]
      simp only [gdp_t hS0.1, lt_is, hX9, bind_is, gdp_t hK7, hy, gdp_t hsh.1, (hsh.2 0 _ rfl).2]
      have hfin : ∀ v : Int32, layF bg w (20 + 3 * m + c) = v → Ok (some ((0 : Int32), K, I, J, X, A, a_up B (z + 171) (vp_updL (B (z + 171)) (0 : Int32).toNatClampNeg v.toInt64), Q, n)) (fun x => Ok (some (layF bg w (20 + 3 * m + c), (0 : Int32), (1 : Int32), layF bg w)) (fun t => t.2.2.1 = 1 ∧ t.2.2.2 = layF bg w ∧ Ans z K I J X A B Q n t.2.1 t.1 x)) := by
        intro v hv
        exact ok_i (ok_i ⟨rfl, rfl, Or.inr ⟨rfl, by rw [hv]⟩⟩)
      rw [hmenl, bind_is, gdp_t (inb_nI (show m < 12 by omega) (by decide)), hmc, ha]
      rcases (show c = 0 ∨ c = 1 ∨ c = 2 by omega) with rfl | rfl | rfl
      · rw [if_pos (show nI 0 = 0 from rfl)]
        simp only [bind_is, gdp_t hka, gdp_t (show 0 + 1 ≤ 1 ∧ 0 + 6 ≤ 6 by decide), hlen, gdp_t (show inb (0 : Int32) 1 by decide)]
        exact hfin _ (d1.trans c1.symm)
      · rw [if_neg (show ¬ nI 1 = 0 by decide), if_pos (show nI 1 = 1 from rfl)]
        simp only [bind_is, gdp_t hka, gdp_t (show 0 + 1 ≤ 1 ∧ 0 + 6 ≤ 6 by decide), hlen, gdp_t (show inb (0 : Int32) 1 by decide)]
        exact hfin _ (d2.trans c2.symm)
      · rw [if_neg (show ¬ nI 2 = 0 by decide), if_neg (show ¬ nI 2 = 1 by decide)]
        simp only [bind_is, gdp_t hka, gdp_t (show 0 + 1 ≤ 1 ∧ 0 + 6 ≤ 6 by decide), hlen, gdp_t (show inb (0 : Int32) 1 by decide)]
        exact hfin _ (d3.trans c3.symm)
  · rw [e, bind_is, if_pos rfl]
    by_cases h0 : p < 0
    · rw [if_pos h0]
      exact hbad _ rfl
    · rw [if_neg h0, if_pos ?_]
      · exact hbad _ rfl
      · rw [w0]
        rcases pk_ix p (n := M) (by omega) with h | h | ⟨j, hj, rfl⟩
        · exact absurd h h0
        · exact h
        · exact absurd rfl (hno j hj)
