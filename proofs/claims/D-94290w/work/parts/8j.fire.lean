/-! the plain law: fire -/
set_option maxRecDepth 100000
theorem rsf_bm {z n L : Nat} {I : gI} {l : List (Nat × Nat × Int32)} (hn : z + 126 < n) : rsf z (bm 0 I n L l) = bm 0 (rsf z I) n L l := by
  funext f a
  by_cases h : a < n
  · rw [bm_lt h]
    by_cases h1 : (f = 38 ∧ a = z) ∨ (f = 1176 ∧ a = z + 126) ∨ (f = 1175 ∧ a = z + 126)
    · rcases h1 with ⟨rfl, rfl⟩ | ⟨rfl, rfl⟩ | ⟨rfl, rfl⟩ <;> simp [rsf, ov, i_up]
    · rw [rsf_at (by omega) (by omega) (by omega), rsf_at (by omega) (by omega) (by omega), bm_lt h]
  · rw [rsf_at (by omega) (by omega) (by omega)]
    unfold bm
    by_cases q : n ≤ a ∧ a < n + L
    · rw [if_pos q, if_pos q]
    · rw [if_neg q, if_neg q, rsf_at (by omega) (by omega) (by omega)]
def FI (adS : Nat → Nat) (z t yy C R : Nat) (wnd : Int32) (I0 A0 : Nat → Nat → Int32) (i k : Nat) (x : gK × gI × gJ × gX × gI × gJ × gX × Nat × Nat × Nat) (y : Int32 × Int32 × (Nat → Int32) × (Nat → Int32) × (Nat → Int32) × (Nat → Int32) × (Nat → Int32) × (Nat → Int32)) : Prop :=
  Inv adS z x.1 (rsf z x.2.1) x.2.2.1 x.2.2.2.1 x.2.2.2.2.1 x.2.2.2.2.2.1 x.2.2.2.2.2.2.1 x.2.2.2.2.2.2.2.1 ∧ (x.2.2.2.2.2.2.2.2.1 ≤ 5 * k ∧ x.2.2.2.2.2.2.2.2.2 ≤ 262 * k) ∧
  (x.2.1 38 z = 1 ∧ x.2.2.2.1 904 (z + 80) = some yy ∧ x.1 yy = some (.inl 3) ∧ x.2.1 304 yy = nI C ∧ x.2.1 305 yy = nI R ∧ x.2.1 314 yy = wnd) ∧
  ((∀ f, x.2.1 f (z + 126) = I0 f (z + 126)) ∧ ∀ k, 126 ≤ k → k < 172 → x.2.2.2.2.1 (z + k) = A0 (z + k)) ∧
  (∃ (l : Nat) (F B V : Nat → Nat → Nat), l ≤ 64 * i ∧ x.2.1 905 (z + 80) = nI l ∧ y.1 = nI l ∧ Gr C R (t * i) F B V (x.2.2.2.2.1 (z + 81)) (x.2.2.2.2.1 (z + 82)) (x.2.2.2.2.1 (z + 84)) y.2.2.1 y.2.2.2.2.1 y.2.2.2.1) ∧
  x.2.1 39 z = y.2.1 ∧
  ∀ j, j < i → i ≤ j + 21 → ∃ (s : Nat) (Fs Bs : Nat → Nat → Nat), x.2.2.2.2.2.2.1 (z + 90) (j % 21) = some s ∧ x.2.2.2.1 904 s = some yy ∧ Gp C R Fs Bs (x.2.2.2.2.1 (s + 1)) (x.2.2.2.2.1 (s + 4)) ∧ Gm C R Fs Bs (64 * j) 3904 y.2.2.2.2.2.2.1 y.2.2.2.2.2.2.2
/-- the slot of the minute, made if need be -/
theorem fire_slot {adS : Nat → Nat} {z t yy C R i p : Nat} {wnd : Int32} {I0 A0 : Nat → Nat → Int32} {p2 p3 p4 : Int32} {x : gK × gI × gJ × gX × gI × gJ × gX × Nat × Nat × Nat} {y : Int32 × Int32 × (Nat → Int32) × (Nat → Int32) × (Nat → Int32) × (Nat → Int32) × (Nat → Int32) × (Nat → Int32)} (h : FI adS z t yy C R wnd I0 A0 i (min i 21) x y) (hi : i < p) (hp : p ≤ 60) :
    ∃ (x' : gK × gI × gJ × gX × gI × gJ × gX × Nat × Nat × Nat) (s : Nat), FI adS z t yy C R wnd I0 A0 i (min (i + 1) 21) x' y ∧ x'.2.2.2.2.2.2.1 (z + 90) (i % 21) = some s ∧
      w1_fire_s33 z z (nI p) p2 p3 p4 (nI i) x.1 x.2.1 x.2.2.1 x.2.2.2.1 x.2.2.2.2.1 x.2.2.2.2.2.1 x.2.2.2.2.2.2.1 x.2.2.2.2.2.2.2.1 x.2.2.2.2.2.2.2.2.1 x.2.2.2.2.2.2.2.2.2 = w1_fire_j121 z p2 p3 p4 (nI i) x'.1 x'.2.1 x'.2.2.1 x'.2.2.2.1 x'.2.2.2.2.1 x'.2.2.2.2.2.1 x'.2.2.2.2.2.2.1 x'.2.2.2.2.2.2.2.1 x'.2.2.2.2.2.2.2.2.1 x'.2.2.2.2.2.2.2.2.2 := by
  obtain ⟨K, I, J, X, A, B, Q, n, u, v⟩ := x
  have h0 := h
  obtain ⟨hi0, ⟨hu, hv⟩, ⟨h38, h904, hky, e4, e5, e14⟩, ⟨hI, hA⟩, ⟨l, F, BB, V, hl, h905, hl14, hg⟩, h39, hseen⟩ := h
  dsimp only at hi0 hu hv h38 h904 hky e4 e5 e14 hI hA h905 hl14 hg h39 hseen ⊢
  have hf := hi0.1
  have hIS := hi0.2.1
  have hn := hf.le hIS
  have hS0 := hIS.1.1
  have hKz := hS0.1
  obtain ⟨x37, l37⟩ := hS0.len 15 rfl
  have h21 : ¬ (21 : Int32) = 0 := by decide
  have hr : nI i - nI i / (21 : Int32) * (21 : Int32) = nI (i % 21) := by
    rw [show (21 : Int32) = nI 21 from rfl]
    exact pk_rem (by omega) (by decide) (by decide)
  have hm : i % 21 < 21 := Nat.mod_lt _ (by decide)
  have hin : inb (nI (i % 21)) 21 := inb_nI hm (by decide)
  have hc : (nI (i % 21)).toNatClampNeg = i % 21 := nI_clamp (by omega)
  unfold w1_fire_s33
  rw [if_neg (nI_ge hi (by omega)), gdp_t hKz]
  simp only [lt_is, gd_t h21, hr, x37, bind_is, l37, gdp_t hin, hc]
  cases hq : Q (z + 90) (i % 21) with
  | some s =>
    rw [if_neg (fun h => nomatch h)]
    refine ⟨(K, I, J, X, A, B, Q, n, u, v), s, ⟨hi0, ⟨?_, ?_⟩, ⟨h38, h904, hky, e4, e5, e14⟩, ⟨hI, hA⟩, ⟨l, F, BB, V, hl, h905, hl14, hg⟩, h39, hseen⟩, hq, rfl⟩
    · dsimp only; omega
    · dsimp only; omega
  | none =>
    have hi21 : i < 21 := by
      by_cases q : i < 21
      · exact q
      · obtain ⟨s, -, -, hs, -⟩ := hseen (i - 21) (by omega) (by omega)
        rw [show (i - 21) % 21 = i % 21 by omega, hq] at hs
        exact nomatch hs
    rw [if_pos rfl, gdp_t hf, gdp_t (by omega)]
    have hnb := hi0.newbarn hm hq
    have hag : Agree n K I J X A B Q (bK K n KS_i12) (bm 0 I n 5 LI_i12) (bm 0 J n 5 LJ_i12) (bm none X n 5 (LX_i12 n)) (ba z0 A n 5 LA_i12) (ba z1 B n 5 []) (ba z2 Q n 5 []) := Agree.blk
    have hk9 : bK K n KS_i12 n = some (.inl 9) := bK_at (i := 0) rfl
    have hl90 := (hnb.2.1.1.1.len 15 rfl).2
    have hyn : yy < n := lt_fr hf (by rw [hky]; exact fun h => nomatch h)
    refine ⟨(bK K n KS_i12, bm 0 I n 5 LI_i12, bm 0 J n 5 LJ_i12, bm none X n 5 (LX_i12 n), ba z0 A n 5 LA_i12, ba z1 B n 5 [], a_up (ba z2 Q n 5 []) (z + 90) (va_up (ba z2 Q n 5 [] (z + 90)) (i % 21) (some n)), n + 5, u + 5, v + 262), n, ⟨?_, ⟨?_, ?_⟩, ⟨?_, ?_, ?_, ?_, ?_, ?_⟩, ⟨fun f => ?_, fun k h1 h2 => ?_⟩, ⟨l, F, BB, V, hl, ?_, hl14, ?_⟩, ?_, fun j hj hj2 => ?_⟩, ?_, ?_⟩ <;> dsimp only
    · rw [rsf_bm (by omega)]
      exact hnb
    · omega
    · omega
    · rw [bm_lt (by omega)]; exact h38
    · rw [bm_lt (by omega)]; exact h904
    · rw [bK_lt hyn]; exact hky
    · rw [bm_lt hyn]; exact e4
    · rw [bm_lt hyn]; exact e5
    · rw [bm_lt hyn]; exact e14
    · rw [bm_lt (by omega)]; exact hI f
    · rw [ba_lt (by omega)]; exact hA k h1 h2
    · rw [bm_lt (by omega)]; exact h905
    · rw [ba_lt (by omega), ba_lt (by omega), ba_lt (by omega)]; exact hg
    · rw [bm_lt (by omega)]; exact h39
    · obtain ⟨s, Fs, Bs, h1, h2, h3, h4⟩ := hseen j hj hj2
      have hjm : j % 21 = j := by omega
      have hsh := (hIS.o.2.2.2.2.2.2.2.2.2.2.1 _ s (Nat.mod_lt _ (by decide)) h1).2
      have hs4 : s + 4 < n := lt_fr hf (by rw [(hsh.2 3 _ rfl).1]; exact fun h => nomatch h)
      refine ⟨s, Fs, Bs, ?_, ?_, ?_, h4⟩
      · unfold a_up va_up
        rw [if_pos rfl, if_neg (show ¬ j % 21 = i % 21 by omega), ba_lt (by omega)]
        exact h1
      · rw [bm_lt (by omega)]; exact h2
      · rw [ba_lt (by omega), ba_lt (by omega)]; exact h3
    · unfold a_up va_up
      rw [if_pos rfl, if_pos rfl]
    · simp only [gdp_t hk9, hl90, bind_is, gdp_t hin]
