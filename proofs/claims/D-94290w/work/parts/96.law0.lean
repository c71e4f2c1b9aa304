/-! the plain law, each step being given -/
set_option maxRecDepth 100000
theorem law_of {z L : Nat} {adS : Nat → Nat} {xs : Nat → Int32} (hL : L ≤ 384) (hstep : StepOk z L adS xs) : ∃ out, w_law z adS L xs (fun _ => none) (fun _ _ => 0) (fun _ _ => 0) (fun _ _ => none) (fun _ _ => 0) (fun _ _ => 0) (fun _ _ => none) z = some out ∧ out.1 = 1 := by
  obtain ⟨r, er, h1⟩ := loop_ok hL hstep (Inv00 z adS) (u := 0 + 126 + 45 + 1) (v := 0 + 4370 + 13708 + 1) (by decide) (by decide)
  refine ⟨r, ?_, h1⟩
  unfold w_law
  rw [gdp_t (fresh00 z), gdp_t (by decide)]
  simp only [lt_is]
  rw [gdp_t (fresh01 z), gdp_t (by decide), gdp_t (fresh02 z), gdp_t (by decide)]
  have e : ∀ o : Option (Int32 × gK × gI × gJ × gX × gI × gJ × gX × Nat), o = some r → (o.bind fun rl32 => w_law_e32_0 rl32) = some r := fun o h => by
    rw [h]
    rfl
  exact e _ er
