/-! the plain law: the loop over the script, each step being given -/
set_option maxRecDepth 100000
/-- a step at m, where the script still has six numbers -/
def StepOk (z L : Nat) (adS : Nat → Nat) (xs : Nat → Int32) : Prop :=
  ∀ (m n u v : Nat) (K : gK) (I : gI) (J : gJ) (X : gX) (A : gI) (B : gJ) (Q : gX), Inv adS z K I J X A B Q n → At L m → (u + 105 ≤ 1200128 ∧ v + 5502 ≤ 5501098) → Ok (w_law_s32 z adS z L xs (z + 126) (z + 171) (nI m) K I J X A B Q n u v) (GoesOn adS z m u v)
theorem end_at {L m : Nat} (hL : L ≤ 384) (hm : m ≤ 390) : (Int32.ofNat L - (6 : Int32) < nI m) ↔ L < m + 6 := by
  show (nI L - nI 6 < nI m) ↔ L < m + 6
  by_cases q : 6 ≤ L
  · rw [pk_sub q]
    rw [nI_ltI (by omega) (by omega)]
    omega
  · have h := pk_sneg (show 6 < 2 ^ 30 by decide) (show L < 6 by omega)
    exact ⟨fun _ => by omega, fun _ => Int32.lt_of_lt_of_le h (nI_pos' (by omega))⟩
theorem loop_ok {z L : Nat} {adS : Nat → Nat} {xs : Nat → Int32} (hL : L ≤ 384) (hstep : StepOk z L adS xs) {K : gK} {I : gI} {J : gJ} {X : gX} {A : gI} {B : gJ} {Q : gX} {n u v : Nat} (h0 : Inv adS z K I J X A B Q n) (hu : u ≤ 200) (hv : v ≤ 20000) :
    Ok (whl (fun (s32 : Int32 × gK × gI × gJ × gX × gI × gJ × gX × Nat × Nat × Nat) => w_law_s32 z adS z L xs (z + 126) (z + 171) s32.1 s32.2.1 s32.2.2.1 s32.2.2.2.1 s32.2.2.2.2.1 s32.2.2.2.2.2.1 s32.2.2.2.2.2.2.1 s32.2.2.2.2.2.2.2.1 s32.2.2.2.2.2.2.2.2.1 s32.2.2.2.2.2.2.2.2.2.1 s32.2.2.2.2.2.2.2.2.2.2) FU ((0 : Int32), K, I, J, X, A, B, Q, n, u, v)) (fun r => r.1 = 1) := by
  refine ok_fu (fun k s => ∃ (j n u v : Nat) (K : gK) (I : gI) (J : gJ) (X : gX) (A : gI) (B : gJ) (Q : gX), j + k = 65 ∧ s = (nI (6 * j), K, I, J, X, A, B, Q, n, u, v) ∧ Inv adS z K I J X A B Q n ∧ u ≤ 200 + 105 * j ∧ v ≤ 20000 + 5502 * j) (k := 65) (by decide) ⟨0, n, u, v, K, I, J, X, A, B, Q, by decide, rfl, h0, by omega, by omega⟩ ?_
  rintro k s ⟨j, n, u, v, K, I, J, X, A, B, Q, hjk, rfl, hI, hu, hv⟩
  dsimp only
  by_cases q : L < 6 * j + 6
  · unfold w_law_s32
    rw [lt_is, if_pos ((end_at hL (by omega)).mpr q), gdp_t (by omega)]
    exact ok_i rfl
  · have hat : At L (6 * j) := ⟨by omega, hL⟩
    refine ok_w (hstep (6 * j) n u v K I J X A B Q hI hat (by omega)) ?_
    rintro o ⟨K', I', J', X', A', B', Q', n', u', v', rfl, hI', hu', hv'⟩
    exact ⟨k - 1, by omega, j + 1, n', u', v', K', I', J', X', A', B', Q', by omega, by rw [Nat.mul_succ], hI', by omega, by omega⟩
