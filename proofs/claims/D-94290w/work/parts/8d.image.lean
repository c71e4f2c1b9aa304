/-! the plain law: image, restore -/
set_option maxRecDepth 100000
theorem image14 {k : Nat} (hk : k < 2) {bg : Int32} (hbg : bg = 0 ∨ bg = 1) (th : Int32) (w kp ik : Nat → Int32) (nm kn : Nat → Int64) : ∃ (kp' : Nat → Int32) (kn' : Nat → Int64), f14_image (nI k) th bg w kp ik nm kn = some (1, 0, 1, layF bg w, kp', upd ik k 1, kn') ∧ (∀ i, i < 800 → kp' (800 * k + i) = layF bg w i) ∧ (∀ j, (j < 800 * k ∨ 800 * k + 800 ≤ j) → kp' j = kp j) ∧ (∀ i, i < 12 → kn' (12 * k + i) = nm i) ∧ (∀ j, (j < 12 * k ∨ 12 * k + 12 ≤ j) → kn' j = kn j) := by
  have hc : (nI k).toNatClampNeg = k := nI_clamp (by omega)
  have h1 : Ok (whl (fun (s4 : Int32 × (Nat → Int32)) => f14_image_s4 (nI k) ((1 : Int32), layF bg w) s4.1 s4.2) FU ((0 : Int32), kp)) (fun x => (∀ i, i < 800 → x (800 * k + i) = layF bg w i) ∧ ∀ j, (j < 800 * k ∨ 800 * k + 800 ≤ j) → x j = kp j) := by
    refine for_ok (fun i (x : Nat → Int32) => (nI i, x)) (fun i x => (∀ t, t < i → x (800 * k + t) = layF bg w t) ∧ ∀ j, (j < 800 * k ∨ 800 * k + 800 ≤ j) → x j = kp j) 800 (by decide) ⟨fun _ h => absurd h (Nat.not_lt_zero _), fun _ _ => rfl⟩ ?_ ?_
    · rintro i x hi ⟨h1, h2⟩
      dsimp only
      unfold f14_image_s4
      rw [show (800 : Int32) = nI 800 from rfl, if_neg (nI_ge hi (by decide)), pk_mul, lt_is, nI_add, lt_is, gd_t (inb_nI hi (by decide)), lt_is, gd_t (inb_nI (by omega) (by decide)), lt_is, nI_1, nI_clamp (by omega), nI_clamp (by omega)]
      refine ok_i ⟨_, rfl, fun t ht => ?_, fun j hj => ?_⟩
      · by_cases q : t = i
        · rw [q, pk_us]
        · rw [pk_un (by omega)]
          exact h1 t (by omega)
      · rw [pk_un (by omega)]
        exact h2 j hj
    · rintro x h
      dsimp only
      unfold f14_image_s4
      rw [if_pos (show (800 : Int32) ≤ nI 800 by decide)]
      exact ok_i ⟨_, rfl, h⟩
  obtain ⟨x, ex, hx1, hx2⟩ := h1
  have h2 : Ok (whl (fun (s5 : Int32 × (Nat → Int64)) => f14_image_s5 (nI k) nm s5.1 s5.2) FU ((0 : Int32), kn)) (fun x => (∀ i, i < 12 → x (12 * k + i) = nm i) ∧ ∀ j, (j < 12 * k ∨ 12 * k + 12 ≤ j) → x j = kn j) := by
    refine for_ok (fun i (x : Nat → Int64) => (nI i, x)) (fun i x => (∀ t, t < i → x (12 * k + t) = nm t) ∧ ∀ j, (j < 12 * k ∨ 12 * k + 12 ≤ j) → x j = kn j) 12 (by decide) ⟨fun _ h => absurd h (Nat.not_lt_zero _), fun _ _ => rfl⟩ ?_ ?_
    · rintro i x hi ⟨h1, h2⟩
      dsimp only
      unfold f14_image_s5
      rw [show (12 : Int32) = nI 12 from rfl, if_neg (nI_ge hi (by decide)), pk_mul, lt_is, nI_add, lt_is, gd_t (inb_nI hi (by decide)), lt_is, gd_t (inb_nI (by omega) (by decide)), lt_is, nI_1, nI_clamp (by omega), nI_clamp (by omega)]
      refine ok_i ⟨_, rfl, fun t ht => ?_, fun j hj => ?_⟩
      · unfold vp_updL
        by_cases q : t = i
        · rw [q, if_pos rfl]
        · rw [if_neg (by omega)]
          exact h1 t (by omega)
      · unfold vp_updL
        rw [if_neg (by omega)]
        exact h2 j hj
    · rintro x h
      dsimp only
      unfold f14_image_s5
      rw [if_pos (show (12 : Int32) ≤ nI 12 by decide)]
      exact ok_i ⟨_, rfl, h⟩
  obtain ⟨y, ey, hy1, hy2⟩ := h2
  refine ⟨x, y, ?_, hx1, hx2, hy1, hy2⟩
  unfold f14_image
  rw [lay_ok hbg, bind_is, isIn14, bind_is, if_neg (nI_pos (show k < 2 ^ 31 by omega)), if_neg (show ¬ (1 : Int32) < nI k from nI_nlt (a := 1) (by omega) (by omega)), if_neg (show ¬ (1 : Int32) = 0 by decide), ex, bind_is]
  unfold f14_image_e4_0
  rw [ey, bind_is]
  unfold f14_image_e5_0
  rw [gd_t (inb_nI hk (by decide)), vz1, hc]
  rfl
theorem restore14 {k : Nat} (hk : k < 2) {bg : Int32} (hbg : bg = 0 ∨ bg = 1) (th : Int32) (w kp ik : Nat → Int32) (nm kn : Nat → Int64) (hik : ¬ ik k = 0) : ∃ (w' : Nat → Int32) (nm' : Nat → Int64), f14_restore (nI k) th bg w kp ik nm kn = some (1, 0, 1, w', nm') ∧ (∀ i, i < 800 → w' i = kp (800 * k + i)) ∧ (∀ i, i < 12 → nm' i = kn (12 * k + i)) := by
  have hc : (nI k).toNatClampNeg = k := nI_clamp (by omega)
  have h1 : Ok (whl (fun (s7 : Int32 × (Nat → Int32)) => f14_restore_s7 (nI k) kp s7.1 s7.2) FU ((0 : Int32), layF bg w)) (fun x => ∀ i, i < 800 → x i = kp (800 * k + i)) := by
    refine for_ok (fun i (x : Nat → Int32) => (nI i, x)) (fun i x => ∀ t, t < i → x t = kp (800 * k + t)) 800 (by decide) (fun _ h => absurd h (Nat.not_lt_zero _)) ?_ ?_
    · rintro i x hi h1
      dsimp only
      unfold f14_restore_s7
      rw [show (800 : Int32) = nI 800 from rfl, if_neg (nI_ge hi (by decide)), pk_mul, lt_is, nI_add, lt_is, gd_t (inb_nI (by omega) (by decide)), lt_is, gd_t (inb_nI hi (by decide)), lt_is, nI_1, nI_clamp (by omega), nI_clamp (by omega)]
      refine ok_i ⟨_, rfl, fun t ht => ?_⟩
      by_cases q : t = i
      · rw [q, pk_us]
      · rw [pk_un (by omega)]
        exact h1 t (by omega)
    · rintro x h
      dsimp only
      unfold f14_restore_s7
      rw [if_pos (show (800 : Int32) ≤ nI 800 by decide)]
      exact ok_i ⟨_, rfl, h⟩
  obtain ⟨x, ex, hx1⟩ := h1
  have h2 : Ok (whl (fun (s8 : Int32 × (Nat → Int64)) => f14_restore_s8 (nI k) kn ((1 : Int32), layF bg w) x s8.1 s8.2) FU ((0 : Int32), nm)) (fun r => ∃ y, r = ((1 : Int32), (0 : Int32), (1 : Int32), x, y) ∧ ∀ i, i < 12 → y i = kn (12 * k + i)) := by
    refine for_ok (fun i (x : Nat → Int64) => (nI i, x)) (fun i x => ∀ t, t < i → x t = kn (12 * k + t)) 12 (by decide) (fun _ h => absurd h (Nat.not_lt_zero _)) ?_ ?_
    · rintro i x' hi h1
      dsimp only
      unfold f14_restore_s8
      rw [show (12 : Int32) = nI 12 from rfl, if_neg (nI_ge hi (by decide)), pk_mul, lt_is, nI_add, lt_is, gd_t (inb_nI (by omega) (by decide)), lt_is, gd_t (inb_nI hi (by decide)), lt_is, nI_1, nI_clamp (by omega), nI_clamp (by omega)]
      refine ok_i ⟨_, rfl, fun t ht => ?_⟩
      unfold vp_updL
      by_cases q : t = i
      · rw [q, if_pos rfl]
      · rw [if_neg (by omega)]
        exact h1 t (by omega)
    · rintro x' h
      dsimp only
      unfold f14_restore_s8
      rw [if_pos (show (12 : Int32) ≤ nI 12 by decide)]
      exact ok_i ⟨_, rfl, _, rfl, h⟩
  obtain ⟨_, ey, y, rfl, hy1⟩ := h2
  refine ⟨x, y, ?_, hx1, hy1⟩
  unfold f14_restore
  rw [lay_ok hbg, bind_is, isIn14, bind_is, if_neg (nI_pos (show k < 2 ^ 31 by omega)), if_neg (show ¬ (1 : Int32) < nI k from nI_nlt (a := 1) (by omega) (by omega)), if_neg (show ¬ (1 : Int32) = 0 by decide), gd_t (inb_nI hk (by decide)), lt_is, hc, if_neg hik, ex, bind_is]
  unfold f14_restore_e7_0
  rw [ey, bind_is]
  rfl
/-- PailRow's slot, made if need be, and what is laid in it -/
theorem image_w {adS : Nat → Nat} {z n k : Nat} {K : gK} {I : gI} {J : gJ} {X : gX} {A : gI} {B : gJ} {Q : gX} (hi : Inv adS z K I J X A B Q n) (hk : k < 2) : ∃ (K1 : gK) (I1 : gI) (J1 : gJ) (X1 : gX) (A1 : gI) (B1 : gJ) (Q1 : gX) (n1 s : Nat), Inv adS z K1 I1 J1 X1 A1 B1 Q1 n1 ∧ z + 172 ≤ s ∧ K1 s = some (.inl 2) ∧ (∀ j, j < 2 → j ≠ k → ¬ Q1 (z + 125) j = some s) ∧
    w1_image z adS z (nI k) K I J X A B Q n = some (1, K1, I1, J1, i_up (i_up (i_up X1 200 s (X1 200 (z + 7))) 201 s (X1 201 (z + 7))) 202 s (X1 202 (z + 7)), A1, B1, a_up Q1 (z + 125) (va_up (Q1 (z + 125)) k (some s)), n1) := by
  have hi0 := hi
  obtain ⟨hfresh, hIS, hbegun, htold, htape, hfault, hrowby, hdone, hbest, hmore, hhooks, haims, hout, hstrs, hmost, hfire⟩ := hi
  have hS0 := hIS.1.1
  have hS11 := hIS.1.2.1
  have hKz := hS0.1
  have hI := hIS
  obtain ⟨⟨-, -, hL171⟩, ⟨hK7, hX9⟩, ⟨hS16, hX13⟩, ⟨hS60, hX15⟩, ⟨hS85, hX36⟩, ⟨⟨hS92, hS97, hS102, hS107⟩, hQ0, hQ1, hQ2, hQ3⟩, hG, ⟨hK2, hX4⟩, ⟨hK14, hX10, hX507, hX509⟩, ⟨hK15, hX11, hX607, hX609⟩, ⟨hS123, hX50, hX1007, hX1010⟩, ⟨hS80, hX35⟩, ⟨hS114, hX45⟩, ⟨hS38, hX14⟩, ⟨hS65, hX16⟩, hG2, hyards, hseen1, hseen2⟩ := hI
  have hn := hfresh.le hIS
  have hc : (nI k).toNatClampNeg = k := nI_clamp (by omega)
  have hin : inb (nI k) 2 := inb_nI hk (by decide)
  have hex : ∃ a, K a ≠ none := ⟨z, by rw [hKz]; exact fun h => nomatch h⟩
  obtain ⟨x51, l51⟩ := hS0.len 23 rfl
  -- the walk behind the slot
  have hw : ∀ {K1 : gK} {I1 : gI} {J1 : gJ} {X1 : gX} {A1 : gI} {B1 : gJ} {Q1 : gX} {n1 s u v : Nat}, Inv adS z K1 I1 J1 X1 A1 B1 Q1 n1 → K1 s = some (.inl 2) → z + 172 ≤ s → (u ≤ 7 ∧ v ≤ 180) → ∀ Q2 : gX, Q2 (z + 125) k = some s → w1_image_j33 z adS z (nI k) K1 I1 J1 X1 A1 B1 Q2 n1 u v = some (1, K1, I1, J1, i_up (i_up (i_up X1 200 s (X1 200 (z + 7))) 201 s (X1 201 (z + 7))) 202 s (X1 202 (z + 7)), A1, B1, Q2, n1) := by
    intro K1 I1 J1 X1 A1 B1 Q1 n1 s u v hi hks hs huv Q2 hq
    obtain ⟨hfresh, hIS, hbegun, htold, htape, hfault, hrowby, hdone, hbest, hmore, hhooks, haims, hout, hstrs, hmost, hfire⟩ := hi
    have hS0 := hIS.1.1
    have hS11 := hIS.1.2.1
    have hKz := hS0.1
    obtain ⟨x51, l51⟩ := hS0.len 23 rfl
    have hK7 := hIS.2.1.1
    have hX9 := hIS.2.1.2
    have hne : ¬ z + 7 = s := by omega
    unfold w1_image_j33 w3_be
    simp only [gdp_t hKz, lt_is, x51, bind_is, l51, gdp_t hin, hc, hq, hX9, gdp_t hks, gdp_t huv, gdp_t hK7]
    simp only [i_up, hne, if_false, if_true, show ¬ (201 = 200) by decide, show ¬ (202 = 200) by decide, show ¬ (202 = 201) by decide]
  unfold w1_image
  rw [gdp_t hex, isIn1, bind_is, if_neg (nI_pos (show k < 2 ^ 31 by omega)), if_neg (show ¬ (1 : Int32) < nI k from nI_nlt (a := 1) (by omega) (by omega)), if_neg (show ¬ (1 : Int32) = 0 by decide), gdp_t hKz]
  simp only [lt_is, x51, bind_is, l51, gdp_t hin, hc]
  obtain ⟨S, hS, hsn, hst, him1, him2⟩ := htold.ex
  have hone : ∀ {s : Nat}, Q (z + 125) k = some s → ∀ j, j < 2 → j ≠ k → ¬ Q (z + 125) j = some s := by
    intro s hs j hj hjk h
    rcases (show (j = 0 ∧ k = 1) ∨ (j = 1 ∧ k = 0) by omega) with ⟨rfl, rfl⟩ | ⟨rfl, rfl⟩
    · exact him1 s h hs
    · exact him1 s hs h
  rcases him2 k hk with ⟨hq, -⟩ | ⟨s, hq, hs, hks, -⟩
  · rw [hq, if_pos rfl, gdp_t hfresh, gdp_t (by decide)]
    have hag : Agree n K I J X A B Q (bK K n KS_i3) (bm 0 I n 7 LI_i3) (bm 0 J n 7 LJ_i3) (bm none X n 7 (LX_i3 n)) (ba z0 A n 7 LA_i3) (ba z1 B n 7 []) (ba z2 Q n 7 []) := Agree.blk
    have hf1 : freshz z (bK K n KS_i3) (n + 7) := freshz_bK (l := KS_i3) hfresh
    have hy1 : ∀ a, n ≤ a → bK K n KS_i3 a = some (.inl 3) → Sh (bK K n KS_i3) (bm none X n 7 (LX_i3 n)) a 3 rows3 := by
      intro a ha he
      have ha1 : a = n + 1 := by
        by_cases q : a < n + 7
        · obtain ⟨i, rfl⟩ : ∃ i, a = n + i := ⟨a - n, by omega⟩
          have hl : i < KS_i3.length := by show i < 7; omega
          rw [bK_at (List.getElem?_eq_getElem hl)] at he
          have hd : ∀ i : Fin 7, KS_i3[i.val]? = some (.inl 3) → i.val = 1 := by decide +kernel
          have := hd ⟨i, by omega⟩ (by rw [List.getElem?_eq_getElem hl]; exact he)
          dsimp only at this
          omega
        · rw [hf1.2.1 a (by omega)] at he
          exact nomatch he
      subst ha1
      have hK : ∀ i κ, KS_i3[i]? = some κ → bK K n KS_i3 (n + i) = some κ := fun i κ h => bK_at h
      have hX : ∀ f i v, i < 7 → lkf (LX_i3 n) f i = some v → bm none X n 7 (LX_i3 n) f (n + i) = v := fun f i v hi h => by
        unfold bm
        rw [if_pos (by omega), Nat.add_sub_cancel_left, h]
        rfl
      refine ⟨hK 1 _ rfl, fun j q hq => ?_⟩
      have hj : j < 3 := (List.getElem?_eq_some_iff.mp hq).1
      rcases (show j = 0 ∨ j = 1 ∨ j = 2 by omega) with rfl | rfl | rfl
      · cases hq
        exact ⟨hK 2 _ rfl, hX 300 1 _ (by decide) rfl⟩
      · cases hq
        exact ⟨hK 3 _ rfl, hX 301 1 _ (by decide) rfl⟩
      · cases hq
        exact ⟨hK 4 _ rfl, hX 302 1 _ (by decide) rfl⟩
    have hi1 := hi0.grow hag hf1 hy1
    have hks : bK K n KS_i3 n = some (.inl 2) := bK_at (i := 0) rfl
    have h51 : ba z2 Q n 7 [] (z + 125) = Q (z + 125) := (hag (z + 125) (by omega)).2.2.2.2.2.2
    have hl : alen (bK K n KS_i3) (z + 125) 7 = some 2 := by
      have := (hi1.2.1.1.1.len 23 rfl).2
      exact this
    refine ⟨_, _, _, _, _, _, _, n + 7, n, hi1, hn, hks, fun j hj hjk h => ?_, ?_⟩
    · rw [h51] at h
      rcases him2 j hj with ⟨h', -⟩ | ⟨s, h', -, h2, -⟩
      · rw [h'] at h
        exact nomatch h
      · rw [h'] at h
        cases h
        rw [hfresh.2.1 n (Nat.le_refl _)] at h2
        exact nomatch h2
    · simp only [lt_is, gdp_t hks, hl, bind_is, gdp_t hin, hc]
      exact hw hi1 hks hn (by decide) _ (by unfold a_up va_up; rw [if_pos rfl, if_pos rfl])
  · rw [hq, if_neg (fun h => nomatch h)]
    refine ⟨K, I, J, X, A, B, Q, n, s, hi0, hs, hks, hone hq, ?_⟩
    rw [hw hi0 hks hs (by decide) Q hq]
    have e : a_up Q (z + 125) (va_up (Q (z + 125)) k (some s)) = Q := by
      refine a_up_same (funext fun j => ?_)
      unfold va_up
      by_cases q : j = k
      · rw [if_pos q, q, hq]
      · rw [if_neg q]
    rw [e]
