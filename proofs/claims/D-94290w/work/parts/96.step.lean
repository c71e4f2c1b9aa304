/-! the plain law: a step, by its cases -/
set_option maxRecDepth 100000
theorem ok_if2 {α : Type} {c : Prop} [Decidable c] {a b : Option α} {P : α → Prop} (h : c → Ok a P) (h2 : ¬ c → Ok b P) : Ok (if c then a else b) P := by
  by_cases q : c
  · rw [if_pos q]; exact h q
  · rw [if_neg q]; exact h2 q
theorem step_of {z L : Nat} {adS : Nat → Nat} {xs : Nat → Int32} (h2 : ∀ {m n u v : Nat} {K : gK} {I : gI} {J : gJ} {X : gX} {A : gI} {B : gJ} {Q : gX}, Inv adS z K I J X A B Q n → At L m → (u + 105 ≤ 1200128 ∧ v + 5502 ≤ 5501098) → Ok (w_law_j290 z adS z (z + 126) (nI m) K n u v I J X A B Q) (GoesOn adS z m u v)) (h27 : ∀ {m n u v : Nat} {K : gK} {I : gI} {J : gJ} {X : gX} {A : gI} {B : gJ} {Q : gX}, Inv adS z K I J X A B Q n → At L m → (u + 105 ≤ 1200128 ∧ v + 5502 ≤ 5501098) → Ok (w_law_j1068 z adS z (z + 126) (nI m) K I J X A B Q n u v) (GoesOn adS z m u v)) (h29 : ∀ {m n u v : Nat} {K : gK} {I : gI} {J : gJ} {X : gX} {A : gI} {B : gJ} {Q : gX}, Inv adS z K I J X A B Q n → At L m → (u + 105 ≤ 1200128 ∧ v + 5502 ≤ 5501098) → Ok (w_law_j1118 z adS z (z + 126) (nI m) K I J X A B Q n u v) (GoesOn adS z m u v)) (h30 : ∀ {m n u v : Nat} {K : gK} {I : gI} {J : gJ} {X : gX} {A : gI} {B : gJ} {Q : gX}, Inv adS z K I J X A B Q n → At L m → (u + 105 ≤ 1200128 ∧ v + 5502 ≤ 5501098) → Ok (w_law_j1131 z adS z L xs (z + 126) (nI m) K I J X A B Q n u v) (GoesOn adS z m u v)) : StepOk z L adS xs := by
  intro m n u v K I J X A B Q hi ha hb
  have hu : u ≤ 1200128 ∧ v ≤ 5501098 := by omega
  unfold w_law_s32
  rw [lt_is, if_neg (fun h => absurd ((end_at ha.2 (by have := ha.1; have := ha.2; omega)).mp h) (by have := ha.1; omega)), gdp_t (show vp_in (nI m) L from nI_in (by have := ha.1; omega) (by have := ha.2; omega)), lt_is, lt_is]
  refine ok_if2 (fun _ => case0 (xs := xs) hi ha hu) (fun _ => ?_)
  refine ok_if2 (fun _ => case1 (xs := xs) hi ha hu) (fun _ => ?_)
  refine ok_if2 (fun _ => h2 hi ha hb) (fun _ => ?_)
  refine ok_if2 (fun _ => case3 (xs := xs) hi ha hu) (fun _ => ?_)
  refine ok_if2 (fun _ => case4 (xs := xs) hi ha hb) (fun _ => ?_)
  refine ok_if2 (fun _ => case5 (xs := xs) hi ha hb) (fun _ => ?_)
  refine ok_if2 (fun _ => case6 (xs := xs) hi ha hu) (fun _ => ?_)
  refine ok_if2 (fun _ => case7 (xs := xs) hi ha hu) (fun _ => ?_)
  refine ok_if2 (fun _ => case8 (xs := xs) hi ha hu) (fun _ => ?_)
  refine ok_if2 (fun _ => case9 (xs := xs) hi ha hu) (fun _ => ?_)
  refine ok_if2 (fun _ => case10 (xs := xs) hi ha hu) (fun _ => ?_)
  refine ok_if2 (fun _ => case11 (xs := xs) hi ha hu) (fun _ => ?_)
  refine ok_if2 (fun _ => case12 (xs := xs) hi ha hu) (fun _ => ?_)
  refine ok_if2 (fun _ => case13 (xs := xs) hi ha hu) (fun _ => ?_)
  refine ok_if2 (fun _ => case14 (xs := xs) hi ha hb) (fun _ => ?_)
  refine ok_if2 (fun _ => case15 (xs := xs) hi ha hu) (fun _ => ?_)
  refine ok_if2 (fun _ => case16 (xs := xs) hi ha hu) (fun _ => ?_)
  refine ok_if2 (fun _ => case17 (xs := xs) hi ha hu) (fun _ => ?_)
  refine ok_if2 (fun _ => case18 (xs := xs) hi ha hu) (fun _ => ?_)
  refine ok_if2 (fun _ => case19 (xs := xs) hi ha hu) (fun _ => ?_)
  refine ok_if2 (fun _ => case20 (xs := xs) hi ha hb) (fun _ => ?_)
  refine ok_if2 (fun _ => case21 (xs := xs) hi ha hu) (fun _ => ?_)
  refine ok_if2 (fun _ => case22 (xs := xs) hi ha hu) (fun _ => ?_)
  refine ok_if2 (fun _ => case23 (xs := xs) hi ha hu) (fun _ => ?_)
  refine ok_if2 (fun _ => case24 (xs := xs) hi ha hu) (fun _ => ?_)
  refine ok_if2 (fun _ => case25 (xs := xs) hi ha hu) (fun _ => ?_)
  refine ok_if2 (fun _ => case26 (xs := xs) hi ha hu) (fun _ => ?_)
  refine ok_if2 (fun _ => h27 hi ha hb) (fun _ => ?_)
  refine ok_if2 (fun _ => case28 (xs := xs) hi ha hu) (fun _ => ?_)
  refine ok_if2 (fun _ => h29 hi ha hb) (fun _ => ?_)
  refine ok_if2 (fun _ => h30 hi ha hb) (fun _ => ?_)
  refine ok_if2 (fun _ => case31 (xs := xs) hi ha hb) (fun _ => ?_)
  refine ok_if2 (fun _ => case32 (xs := xs) hi ha hu) (fun _ => ?_)
  refine ok_if2 (fun _ => case33 (xs := xs) hi ha hu) (fun _ => ?_)
  exact goes0 hi
