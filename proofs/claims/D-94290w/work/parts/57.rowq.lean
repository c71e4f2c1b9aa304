/-! the plain law: the question 'row' -/
set_option maxRecDepth 100000
/-- the place at which most pails stood -/
theorem heap_ok {N : Nat} (hN2 : N ≤ 12) (hN : 2 ≤ N) (hp : Nat → Int32) : Ok (f10_heap (nI N) hp) (fun x => ∃ b, b < N ∧ x = nI b ∧ ∃ f : Nat → Nat, f 1 = 0 ∧ f N = b ∧ ∀ k, 1 ≤ k → k < N → f k < k ∧ f (k + 1) = if hp k ≤ (if f k = 0 then 0 else hp (f k)) then f k else k) := by
  -- the best so far, as a function of the place
  let F : Nat → Nat := fun k => Nat.rec (motive := fun _ => Nat) 0 (fun j b => if j = 0 then 0 else if hp j ≤ (if b = 0 then 0 else hp b) then b else j) k
  have hF1 : F 1 = 0 := rfl
  have hFs : ∀ k, 1 ≤ k → F (k + 1) = if hp k ≤ (if F k = 0 then 0 else hp (F k)) then F k else k := by
    intro k hk
    show (if k = 0 then 0 else if hp k ≤ (if F k = 0 then 0 else hp (F k)) then F k else k) = _
    rw [if_neg (show ¬ k = 0 by omega)]
  have hFlt : ∀ k, 1 ≤ k → F k < k := by
    intro k hk
    induction k with
    | zero => exact absurd hk (by decide)
    | succ k ih =>
      by_cases e : k = 0
      · subst e
        show F 1 < 1
        rw [hF1]
        decide
      · rw [hFs k (by omega)]
        have h1 := ih (by omega)
        have h2 : ∀ (c : Prop) [Decidable c], (if c then F k else k) < k + 1 := by
          intro c _
          split
          · exact Nat.lt_succ_of_lt h1
          · exact Nat.lt_succ_self k
        exact h2 _
  unfold f10_heap
  refine ok_b (Q := fun x => x = nI (F N)) ?_ (fun x hx => ok_i ⟨F N, hFlt N (by omega), hx, F, hF1, rfl, fun k hk _ => ⟨hFlt k hk, hFs k hk⟩⟩)
  refine for_ok (fun i (x : Int32) => (x, nI (i + 1))) (fun i x => x = nI (F (i + 1))) (N - 1) (by omega) rfl ?_ ?_
  · rintro i x hi rfl
    have hi12 : inb (nI (i + 1)) 12 := inb_nI (by omega) (by decide)
    have hic : (nI (i + 1)).toNatClampNeg = i + 1 := nI_clamp (by omega)
    have hlt := hFlt (i + 1) (by omega)
    have hs := hFs (i + 1) (by omega)
    generalize hb : F (i + 1) = bb at *
    dsimp only
    unfold f10_heap_s1 f10_heap_j32 f10_heap_j37
    rw [if_neg (nI_ge (show i + 1 < N by omega) (by omega))]
    simp only [gd_t hi12, lt_is, hic, nI_1]
    by_cases e : bb = 0
    · rw [if_pos e] at hs
      rw [if_pos (show nI bb = 0 by rw [e]; rfl)]
      by_cases q : hp (i + 1) ≤ 0
      · rw [if_pos q] at hs ⊢
        exact ok_i ⟨_, rfl, by rw [hs]⟩
      · rw [if_neg q] at hs ⊢
        exact ok_i ⟨_, rfl, by rw [hs]⟩
    · rw [if_neg e] at hs
      rw [if_neg (nI_ne0 (show 0 < bb by omega) (by omega)), gd_t (inb_nI (show bb < 12 by omega) (by decide)), nI_clamp (by omega)]
      by_cases q : hp (i + 1) ≤ hp bb
      · rw [if_pos q] at hs ⊢
        exact ok_i ⟨_, rfl, by rw [hs]⟩
      · rw [if_neg q] at hs ⊢
        exact ok_i ⟨_, rfl, by rw [hs]⟩
  · rintro x rfl
    dsimp only
    unfold f10_heap_s1
    rw [if_pos (nI_le (show N ≤ N - 1 + 1 by omega) (by omega))]
    exact ok_i ⟨_, rfl, by rw [show N - 1 + 1 = N by omega]⟩
theorem lsum_take {l : List Nat} {i x : Nat} (h : l[i]? = some x) : lsum (l.take (i + 1)) = lsum (l.take i) + x := by
  rw [List.take_add_one, h]
  exact lsum_app x _
/-- what is still on its way, place by place -/
theorem going_ok {N : Nat} (hN2 : N ≤ 12) (hN : 2 ≤ N) {hp : Nat → Int32} {L : Nat → Nat} {q : Nat → List Nat} {f : Nat → Nat} {rd : Nat → Int32} {rr7 : Int32 × Int32 × Int32 × Int32 × Int32 × Int32 × Int32 × Int32 × Int32 × Int32 × Int32 × (Nat → Int32) × (Nat → Int32) × (Nat → Int32) × (Nat → Int32) × (Nat → Int32) × (Nat → Int32) × (Nat → Int32) × (Nat → Int32)} (hm : rr7.2.1 = nI N) (hmost : ∀ k, k < N → hp k = rr7.2.2.2.2.2.2.2.2.2.2.2.2.2.2.2.2.1 k) (hload : ∀ k, k < N → rr7.2.2.2.2.2.2.2.2.2.2.2.2.1 k = nI (L k)) (hw : ∀ k, k < N → rr7.2.2.2.2.2.2.2.2.2.2.2.2.2.2.2.1 k = nI (q k).length ∧ (q k).length ≤ 30) (hq : ∀ k, k < N → ∀ i x, (q k)[i]? = some x → rr7.2.2.2.2.2.2.2.2.2.2.2.2.2.2.1 (30 * k + i) = nI x) (hp0 : hp 0 = 0) (hf1 : f 1 = 0) (hfs : ∀ k, 1 ≤ k → k < N → f k < k ∧ f (k + 1) = if hp k ≤ (if f k = 0 then 0 else hp (f k)) then f k else k) :
    Ok (whl (fun (s8 : Int32 × Int32 × Int32 × Int32 × (Nat → Int32)) => f14_row_s8 rr7 s8.1 s8.2.1 s8.2.2.1 s8.2.2.2.1 s8.2.2.2.2) FU ((0 : Int32), (0 : Int32), (0 : Int32), (0 : Int32), rd)) (fun x => x.1 = (if f N = 0 then 0 else hp (f N)) ∧ x.2.1 = nI (f N) ∧ x.2.2.1 = nI (sm (fun k => L k + lsum (q k)) N) ∧ ∀ k, k < N → x.2.2.2 k = rr7.2.2.2.2.2.2.2.2.2.2.2.2.2.1 k) := by
  refine for_ok (fun i (x : Int32 × Int32 × Int32 × (Nat → Int32)) => (x.1, x.2.1, x.2.2.1, nI i, x.2.2.2)) (fun i (x : Int32 × Int32 × Int32 × (Nat → Int32)) => x.1 = (if i = 0 then 0 else if f i = 0 then 0 else hp (f i)) ∧ x.2.1 = (if i = 0 then 0 else nI (f i)) ∧ x.2.2.1 = nI (sm (fun k => L k + lsum (q k)) i) ∧ ∀ k, k < i → x.2.2.2 k = rr7.2.2.2.2.2.2.2.2.2.2.2.2.2.1 k) N (by omega) (x := ((0 : Int32), (0 : Int32), (0 : Int32), rd)) ⟨rfl, rfl, rfl, fun k h => absurd h (Nat.not_lt_zero _)⟩ ?_ ?_
  · rintro i ⟨x1, x2, x3, x4⟩ hi ⟨e1, e2, e3, e4⟩
    dsimp only at e1 e2 e3 e4 ⊢
    have hi12 : inb (nI i) 12 := inb_nI (by omega) (by decide)
    have hic : (nI i).toNatClampNeg = i := nI_clamp (by omega)
    obtain ⟨hw1, hw2⟩ := hw i hi
    have tail : ∀ (a b : Int32), a = (if f (i + 1) = 0 then 0 else hp (f (i + 1))) → b = nI (f (i + 1)) → Ok (f14_row_j89 rr7 x3 (nI i) x4 a b) (fun o => ∃ y : Int32 × Int32 × Int32 × (Nat → Int32), o = .inl (y.1, y.2.1, y.2.2.1, nI (i + 1), y.2.2.2) ∧ y.1 = (if i + 1 = 0 then 0 else if f (i + 1) = 0 then 0 else hp (f (i + 1))) ∧ y.2.1 = (if i + 1 = 0 then 0 else nI (f (i + 1))) ∧ y.2.2.1 = nI (sm (fun k => L k + lsum (q k)) (i + 1)) ∧ ∀ k, k < i + 1 → y.2.2.2 k = rr7.2.2.2.2.2.2.2.2.2.2.2.2.2.1 k) := by
      intro a b ha hb
      unfold f14_row_j89
      simp only [gd_t hi12, lt_is, hic]
      rw [hload i hi, e3, nI_add]
      have inner : Ok (whl (fun (s27 : Int32 × Int32) => f14_row_s27 rr7 (nI i) s27.1 s27.2) FU (nI (sm (fun k => L k + lsum (q k)) i + L i), (0 : Int32))) (fun x => x = nI (sm (fun k => L k + lsum (q k)) i + L i + lsum (q i))) := by
        refine for_ok (fun j (x : Int32) => (x, nI j)) (fun j x => x = nI (sm (fun k => L k + lsum (q k)) i + L i + lsum ((q i).take j))) (q i).length (by omega) (by rw [List.take_zero]; rfl) ?_ ?_
        · rintro j x hj rfl
          obtain ⟨z, hz⟩ : ∃ z, (q i)[j]? = some z := ⟨_, List.getElem?_eq_getElem hj⟩
          dsimp only
          unfold f14_row_s27
          simp only [gd_t hi12, lt_is, hic]
          rw [hw1, if_neg (nI_ge hj (by omega)), show (30 : Int32) = nI 30 from rfl, pk_mul, nI_add, gd_t (inb_nI (show 30 * i + j < 360 by omega) (by decide)), nI_clamp (by omega), hq i hi j z hz, nI_add, nI_1, lsum_take hz]
          exact ok_i ⟨_, rfl, by rw [Nat.add_assoc _ (lsum _) z]⟩
        · rintro x rfl
          dsimp only
          unfold f14_row_s27
          simp only [gd_t hi12, lt_is, hic]
          rw [hw1, if_pos (nI_le (Nat.le_refl _) (by omega)), List.take_length]
          exact ok_i ⟨_, rfl, rfl⟩
      obtain ⟨v, ev, rfl⟩ := inner
      rw [ev, bind_is]
      unfold f14_row_e27_0
      simp only [gd_t hi12, lt_is, hic, nI_1]
      refine ok_i ⟨(a, b, _, _), rfl, ?_, ?_, ?_, fun k hk => ?_⟩
      · rw [if_neg (Nat.succ_ne_zero i)]
        exact ha
      · rw [if_neg (Nat.succ_ne_zero i)]
        exact hb
      · show nI (sm (fun k => L k + lsum (q k)) i + L i + lsum (q i)) = nI (sm (fun k => L k + lsum (q k)) i + (L i + lsum (q i)))
        rw [Nat.add_assoc]
      · show (upd x4 i (rr7.2.2.2.2.2.2.2.2.2.2.2.2.2.1 i)) k = rr7.2.2.2.2.2.2.2.2.2.2.2.2.2.1 k
        by_cases e : k = i
        · subst e; rw [pk_us]
        · rw [pk_un e]; exact e4 k (by omega)
    unfold f14_row_s8
    rw [hm, if_neg (nI_ge hi (by omega))]
    simp only [gd_t hi12, lt_is, hic]
    rw [← hmost i hi]
    by_cases e0 : i = 0
    · subst e0
      rw [if_pos rfl] at e1 e2
      subst e1 e2
      rw [hp0, if_pos (show (0 : Int32) ≤ 0 by decide)]
      exact tail 0 0 (by rw [hf1, if_pos rfl]) (by rw [hf1]; rfl)
    · rw [if_neg e0] at e1 e2
      subst e1 e2
      obtain ⟨hlt, hs⟩ := hfs i (by omega) hi
      by_cases qq : hp i ≤ (if f i = 0 then 0 else hp (f i))
      · rw [if_pos qq] at hs ⊢
        exact tail _ _ (by rw [hs]) (by rw [hs])
      · rw [if_neg qq] at hs ⊢
        exact tail _ _ (by rw [hs, if_neg e0]) (by rw [hs])
  · rintro ⟨x1, x2, x3, x4⟩ ⟨e1, e2, e3, e4⟩
    dsimp only at e1 e2 e3 e4 ⊢
    unfold f14_row_s8
    rw [hm, if_pos (nI_le (Nat.le_refl _) (by omega))]
    have hN0 : ¬ N = 0 := by omega
    rw [if_neg hN0] at e1 e2
    exact ok_i ⟨_, rfl, e1, e2, e3, e4⟩
theorem keep6 (a k0 k1 k2 k3 k4 k5 : Int32) (a0 : Nat → Int32) : ∀ i, i < 6 → upd (upd (upd (upd (upd (upd a0 0 k0) 1 k1) 2 k2) 3 k3) 4 k4) 5 k5 i = (if i = 0 then k0 else if i = 1 then k1 else if i = 2 then k2 else if i = 3 then k3 else if i = 4 then k4 else k5) := by
  intro i hi
  have h : i = 0 ∨ i = 1 ∨ i = 2 ∨ i = 3 ∨ i = 4 ∨ i = 5 := by omega
  rcases h with rfl | rfl | rfl | rfl | rfl | rfl <;> rfl
theorem row_eq {M C R P n : Nat} {g fuel burns : Nat → Int32} {men : Nat → Option Nat} {IM : Nat → Nat → Int32} {w t1 t14 : Nat → Int32} {b : Nat → Nat} {bg : Int32} (hT : TP b t1 t14) (hn : n ≤ 740) (hbg : bg = 0 ∨ bg = 1) (hY : YV M C R P g fuel burns men IM (layF bg w)) (p : Int32) (y : Nat)
    (sz am m0 w0 t0 k0 e0 f0 b0 d0 s0 : Int32) (o0 : Option Nat) (a0 dn bs li st fi hp bks asked : Nat → Int32) (pa : Nat → Nat → Int32) (th q1 q2 q3 q4 q5 q6 q7 q8 q9 q10 : Int32) (team rest load done queue waits most comes state : Nat → Int32) {has km rm : Int32} {kp kd rb rd : Nat → Int32} (hrb : pRowBy has kp rb) (hkd : pKept 12 km rm kd rd) :
    Ok (f1_row p y (nI n) sz am has km (g 303) (g 306) (g 307) (g 308) (g 309) (g 310) (g 311) (g 312) (g 313) m0 w0 t0 k0 e0 f0 b0 d0 s0 o0 t1 a0 dn bs li st fi hp bks asked kp kd men (IM 1201) (IM 1203) pa) (fun x => Ok (f14_row p th (nI n) bg q1 q2 q3 q4 q5 q6 q7 q8 q9 q10 rm t14 w team rest load done queue waits most comes state rb rd) (fun y => x.1 = y.1 ∧ x.2.1 = nI 0 ∧ Left bg w y.2.1 y.2.2.1 y.2.2.2.1 y.2.2.2.2.2.2.2.2.2.2.2.2.2.2.2.1 ∧ pRowBy x.2.2.2.2.1 x.2.2.2.2.2.2.2.2.2.2.2.2.2.2.2.2.2.2.2.2.2.2.2.2.2.1 y.2.2.2.2.2.2.2.2.2.2.2.2.2.2.2.2.2.2.2.2.2.2.2.2.2.1 ∧ pKept 12 x.2.2.2.2.2.1 y.2.2.2.2.2.2.2.2.2.2.2.2.2.2.1 x.2.2.2.2.2.2.2.2.2.2.2.2.2.2.2.2.2.2.2.2.2.2.2.2.2.2.1 y.2.2.2.2.2.2.2.2.2.2.2.2.2.2.2.2.2.2.2.2.2.2.2.2.2.2)) := by
  have hY0 := hY
  obtain ⟨⟨hM, -, -, -, -, hP⟩, ⟨g303, w0', -, -, -, -, g307, -⟩, -⟩ := hY0
  obtain ⟨H, D, s, bk, W0, hTY, hW0, g310, w5⟩ := hY.ty
  unfold f1_row f14_row f1_taken
  rw [bind_is]
  obtain ⟨x1, x2, x3, y4, y6, ex, ey, h⟩ := ask_use (lo := 2) (hi := 12) (am := am) (tm := q1) (asked := asked) (team := team) hT hn hM hbg w0' (by decide) (by decide) g303
  refine ok_e ex (ok_sw (ok_e ey (ok_sw ?_)))
  dsimp only
  rcases h with rfl | ⟨rfl, rfl, rfl, h1, h2, hA⟩
  · rw [if_pos rfl, if_pos rfl]
    exact ok_i (ok_i ⟨rfl, rfl, ⟨rfl, rfl, rfl, rfl⟩, hrb, hkd⟩)
  · rw [if_neg (by decide), if_neg (by decide)]
    rcases ticks_cc p with ⟨e, e'⟩ | ⟨e, e', j, hj, rfl⟩
    · rw [e, e', bind_is, bind_is, if_pos rfl, if_pos rfl]
      exact ok_i (ok_i ⟨rfl, rfl, ⟨rfl, rfl, rfl, rfl⟩, hrb, hkd⟩)
    · rw [e, e', bind_is, bind_is, if_neg (by decide), if_neg (by decide), gd_t (show inb (5 : Int32) 800 by decide), lt_is, show (5 : Int32).toNatClampNeg = 5 from rfl, w5, g310]
      obtain ⟨⟨rr6, rr7⟩, exx, rr14, eyy, T, hT9, c1, c2, c3, c4, hG, c5⟩ := throwsIn_row hY hTY hW0 h1 h2 hA.hT hj m0 w0 t0 k0 e0 f0 b0 d0 s0 a0 dn bs li st fi hp bks pa (nI n) q2 q3 q4 q5 q6 q7 q8 q9 q10 rest load done queue waits most comes state
      dsimp only at c1 c2 c3 c4 hG c5
      cases hb : f10_begin (nI n) (nI W0) 12 (g 307) m0 w0 t0 k0 e0 f0 b0 d0 s0 a0 dn bs li st fi hp x3 with
      | none =>
        rw [hb] at exx
        exact absurd exx (by simp)
      | some rr6' =>
        rw [hb, bind_is] at exx
        rw [bind_is]
        cases hgo : (f9_goesR (nI j) (g 306) (g 308) (g 309) (g 311) (g 312) (g 313) rr6'.1 rr6'.2.1 rr6'.2.2.1 rr6'.2.2.2.1 rr6'.2.2.2.2.1 rr6'.2.2.2.2.2.1 rr6'.2.2.2.2.2.2.1 rr6'.2.2.2.2.2.2.2.1 rr6'.2.2.2.2.2.2.2.2.1 rr6'.2.2.2.2.2.2.2.2.2.1 rr6'.2.2.2.2.2.2.2.2.2.2.1 rr6'.2.2.2.2.2.2.2.2.2.2.2.1 rr6'.2.2.2.2.2.2.2.2.2.2.2.2.1 rr6'.2.2.2.2.2.2.2.2.2.2.2.2.2.1 rr6'.2.2.2.2.2.2.2.2.2.2.2.2.2.2.1 rr6'.2.2.2.2.2.2.2.2.2.2.2.2.2.2.2 bks men (IM 1201) (IM 1203) pa) with
        | none =>
          rw [hgo] at exx
          exact absurd exx (by simp)
        | some rr7' =>
          rw [hgo, bind_is] at exx
          have hpair := Option.some.inj exx
          have h61 : rr6' = rr6 := congrArg Prod.fst hpair
          have h71 : rr7' = rr7 := congrArg Prod.snd hpair
          subst h61 h71
          rw [bind_is, eyy, bind_is]
          obtain ⟨gt1, gt2, ⟨W, E, F, T', SP, L, q, B, ⟨hW, -, -⟩, ⟨i1, i2, i3, i4, i5, i6, i7⟩, hpl, -, hcnt, hsum⟩, hmost, hp0⟩ := hG
          obtain ⟨hh, ehh, b', hb', rfl, f, hf1, hfN, hfs⟩ := heap_ok h2 h1 rr7'.2.2.2.2.2.2.2.2.2.2.2.2.2.2.1
          have hlen : ∀ k, k < n → (q k).length ≤ 30 := fun k hk => by
            have := sm_le (f := fun k => (q k).length + bz (rr14.2.2.2.2.2.2.2.2.2.2.2.1 k)) hk
            try dsimp only at this
            omega
          obtain ⟨z, ez, z1, z2, z3, z4⟩ := going_ok (rd := rd) h2 h1 c4 hmost (fun k hk => (hpl k hk).2.2.2.2.1) (fun k hk => ⟨(hpl k hk).2.2.2.1, hlen k hk⟩) (fun k hk i x hx => by
            obtain ⟨-, -, -, -, -, -, -, c, -, -, hq⟩ := hpl k hk
            exact (hq i x hx).2) hp0 hf1 hfs
          rw [ez, bind_is]
          unfold f1_keep
          rw [c1, ehh, bind_is]
          have hdn : ∀ k, k < n → rr7'.2.2.2.2.2.2.2.2.2.1 k = rr14.2.2.2.2.2.2.2.2.2.2.2.2.2.1 k := fun k hk => (hpl k hk).1
          have hn12 : cp_ok (0 : Int32) (0 : Int32) (12 : Int32) 12 12 := cp_n (n := 12) (Nat.le_refl _) (Nat.le_refl _) (by decide)
          have tail : ∀ v : Int32, v = (if b' = 0 then 0 else rr7'.2.2.2.2.2.2.2.2.2.2.2.2.2.2.1 b') → Ok ((f1_keep_j35 (nI n) rr7'.2.2.1 rr7'.2.2.2.2.2.2.2.1 rr7'.2.2.2.2.2.2.2.2.1 rr7'.2.2.2.2.2.2.2.2.2.1 kp kd (nI b') v).bind fun rr8 => some (rr7'.2.2.1, (0 : Int32), nI n, nI n, rr8.1, rr8.2.1, nI n, rr7'.2.1, rr7'.2.2.1, rr7'.2.2.2.1, rr7'.2.2.2.2.1, rr7'.2.2.2.2.2.1, rr7'.2.2.2.2.2.2.1, rr7'.2.2.2.2.2.2.2.1, rr7'.2.2.2.2.2.2.2.2.1, some y, rr6'.2.2.2.2.2.2.2.2.2.1, rr7'.2.2.2.2.2.2.2.2.2.1, rr7'.2.2.2.2.2.2.2.2.2.2.1, rr7'.2.2.2.2.2.2.2.2.2.2.2.1, rr7'.2.2.2.2.2.2.2.2.2.2.2.2.1, rr7'.2.2.2.2.2.2.2.2.2.2.2.2.2.1, rr7'.2.2.2.2.2.2.2.2.2.2.2.2.2.2.1, rr7'.2.2.2.2.2.2.2.2.2.2.2.2.2.2.2.1, x3, rr8.2.2.1, rr8.2.2.2, rr7'.2.2.2.2.2.2.2.2.2.2.2.2.2.2.2.2)) (fun x => Ok (f14_row_e8_0 rb ((1 : Int32), (0 : Int32), (1 : Int32), nI n, layF bg w, y6) rr14 z) (fun y => x.1 = y.1 ∧ x.2.1 = nI 0 ∧ Left bg w y.2.1 y.2.2.1 y.2.2.2.1 y.2.2.2.2.2.2.2.2.2.2.2.2.2.2.2.1 ∧ pRowBy x.2.2.2.2.1 x.2.2.2.2.2.2.2.2.2.2.2.2.2.2.2.2.2.2.2.2.2.2.2.2.2.1 y.2.2.2.2.2.2.2.2.2.2.2.2.2.2.2.2.2.2.2.2.2.2.2.2.2.1 ∧ pKept 12 x.2.2.2.2.2.1 y.2.2.2.2.2.2.2.2.2.2.2.2.2.2.1 x.2.2.2.2.2.2.2.2.2.2.2.2.2.2.2.2.2.2.2.2.2.2.2.2.2.2.1 y.2.2.2.2.2.2.2.2.2.2.2.2.2.2.2.2.2.2.2.2.2.2.2.2.2.2)) := by
            intro v hv
            unfold f1_keep_j35 f14_row_e8_0
            simp only [gd_t (show inb (0 : Int32) 6 by decide), gd_t (show inb (1 : Int32) 6 by decide), gd_t (show inb (2 : Int32) 6 by decide), gd_t (show inb (3 : Int32) 6 by decide), gd_t (show inb (4 : Int32) 6 by decide), gd_t (show inb (5 : Int32) 6 by decide), lt_is]
            rw [show nI n - (1 : Int32) = nI (n - 1) from by rw [show (1 : Int32) = nI 1 from rfl, pk_sub (by omega)], gd_t (inb_nI (show n - 1 < 12 by omega) (by decide)), gd_t hn12, bind_is, nI_clamp (show n - 1 < 2 ^ 31 by omega)]
            refine ok_i (ok_i ⟨i1.trans (c5.trans i2).symm, rfl, ⟨rfl, rfl, rfl, rfl⟩, Or.inr ⟨rfl, fun i hi => ?_⟩, n, h2, rfl, c4, fun i hi => ?_⟩)
            · refine (keep6 0 v (nI b') _ _ _ _ _ i hi).trans ((?_ : _ = _).trans (keep6 0 z.1 z.2.1 _ _ _ z.2.2.1 _ i hi).symm)
              rw [z1, z2, z3, hfN, hv, i5, i6, i3, i4, i1, i7, hdn (n - 1) (by omega)]
              have hsub1 : nI (W0 - W) - nI SP - nI T' = nI (sm (fun k => L k + lsum (q k)) n) := by
                rw [pk_sub (by omega), pk_sub (by omega), show W0 - W - SP - T' = sm (fun k => L k + lsum (q k)) n by omega]
              rw [hsub1]
            · rw [z4 i hi]
              show va_cpy rr7'.2.2.2.2.2.2.2.2.2.1 kd (0 : Int32).toNatClampNeg (0 : Int32).toNatClampNeg (nI 12).toNatClampNeg i = _
              rw [cpy_at (by decide) (by omega)]
              exact hdn i hi
          try dsimp only
          by_cases hb0 : b' = 0
          · rw [if_pos (show nI b' = 0 by rw [hb0]; rfl)]
            exact tail 0 (by rw [if_pos hb0])
          · rw [if_neg (nI_ne0 (show 0 < b' by omega) (by omega)), gd_t (inb_nI (show b' < 12 by omega) (by decide)), lt_is, nI_clamp (by omega)]
            exact tail _ (by rw [if_neg hb0])
