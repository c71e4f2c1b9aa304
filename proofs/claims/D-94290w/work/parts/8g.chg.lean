/-! changes at PailRow's scratch places -/
set_option maxRecDepth 100000
/-- the int fields that Inv speaks of, but those of the tape and of what is begun -/
def InvF : List Nat := [12, 1110, 19, 22, 1145, 25, 1151, 29, 1155, 33, 1163, 43, 1183, 38, 39, 1175, 500, 600, 1000, 1176, 1173, 1174, 304, 305, 303, 306, 307, 308, 309, 310, 311, 312, 313, 314, 401, 1201, 1202, 1203, 1300, 1301, 1302, 1303, 1500, 1501, 1502]
def Sc (z a : Nat) : Prop := (z + 17 ≤ a ∧ a ≤ z + 70) ∨ a = z + 73 ∨ a = z + 75 ∨ a = z + 77 ∨ a = z + 78 ∨ (z + 85 ≤ a ∧ a ≤ z + 112) ∨ (z + 114 ≤ a ∧ a ≤ z + 122)
def Chg (z : Nat) (I : gI) (X : gX) (A : gI) (I' : gI) (X' : gX) (A' : gI) : Prop :=
  (∀ f a, (f ∈ InvF ∨ ¬ Lo z a ∨ z + 126 ≤ a) → I' f a = I f a) ∧ (∀ f a, ¬ ((f = 701 ∨ f = 801 ∨ (f = 904 ∧ a ≠ z + 80)) ∧ Lo z a ∧ a < z + 126) → X' f a = X f a) ∧ ∀ a, ¬ Sc z a → A' a = A a
theorem Chg.i {z : Nat} {I I' : gI} {X X' : gX} {A A' : gI} (h : Chg z I X A I' X' A') : ∀ f a, (f ∈ InvF ∨ ¬ Lo z a ∨ z + 126 ≤ a) → I' f a = I f a := h.1
theorem Chg.x {z : Nat} {I I' : gI} {X X' : gX} {A A' : gI} (h : Chg z I X A I' X' A') : ∀ f a, ¬ ((f = 701 ∨ f = 801 ∨ (f = 904 ∧ a ≠ z + 80)) ∧ Lo z a ∧ a < z + 126) → X' f a = X f a := h.2.1
theorem Chg.a {z : Nat} {I I' : gI} {X X' : gX} {A A' : gI} (h : Chg z I X A I' X' A') : ∀ a, ¬ Sc z a → A' a = A a := h.2.2
theorem Chg.refl {z : Nat} {I : gI} {X : gX} {A : gI} : Chg z I X A I X A := ⟨fun _ _ _ => rfl, fun _ _ _ => rfl, fun _ _ => rfl⟩
theorem Chg.trans {z : Nat} {I I1 I2 : gI} {X X1 X2 : gX} {A A1 A2 : gI} (h : Chg z I X A I1 X1 A1) (h' : Chg z I1 X1 A1 I2 X2 A2) : Chg z I X A I2 X2 A2 :=
  ⟨fun f a q => (h'.i f a q).trans (h.i f a q), fun f a q => (h'.x f a q).trans (h.x f a q), fun a q => (h'.a a q).trans (h.a a q)⟩
theorem Chg.putI {z : Nat} {I I1 : gI} {X X1 : gX} {A A1 : gI} {l : List (Nat × Nat × Int32)} (h : Chg z I X A I1 X1 A1) (h1 : ∀ p ∈ l, Lo z p.2.1 ∧ p.2.1 < z + 126) (h2 : InvF.all (fun f => ovn l f) = true) : Chg z I X A (ov I1 l) X1 A1 := by
  refine h.trans ⟨fun f a q => ?_, fun _ _ _ => rfl, fun _ _ => rfl⟩
  rcases q with q | q | q
  · rw [ov_no (List.all_eq_true.mp h2 f q)]
  · exact ov_fr (fun p hp e => absurd (e ▸ (h1 p hp).1) q)
  · exact ov_fr (fun p hp e => by have := (h1 p hp).2; omega)
theorem Chg.putX {z : Nat} {I I1 : gI} {X X1 : gX} {A A1 : gI} {l : List (Nat × Nat × Option Nat)} (h : Chg z I X A I1 X1 A1) (h1 : ∀ p ∈ l, Lo z p.2.1 ∧ p.2.1 < z + 126 ∧ (p.1 = 701 ∨ p.1 = 801 ∨ (p.1 = 904 ∧ p.2.1 ≠ z + 80))) : Chg z I X A I1 (ov X1 l) A1 := by
  refine h.trans ⟨fun _ _ _ => rfl, fun f a q => ?_, fun _ _ => rfl⟩
  refine ov_fr (fun p hp e e2 => absurd ?_ q)
  obtain ⟨a1, a2, a3⟩ := h1 p hp
  rw [← e, ← e2]
  exact ⟨a3, a1, a2⟩
theorem Chg.putA {z : Nat} {I I1 : gI} {X X1 : gX} {A A1 : gI} {l : List (Nat × (Nat → Int32))} (h : Chg z I X A I1 X1 A1) (h1 : ∀ p ∈ l, Sc z p.1 ∨ p.2 = A1 p.1) : Chg z I X A I1 X1 (ova A1 l) := by
  refine h.trans ⟨fun _ _ _ => rfl, fun _ _ _ => rfl, fun a q => ?_⟩
  refine ova_fr (fun p hp e => ?_)
  rcases h1 p hp with r | r
  · exact absurd (e ▸ r) q
  · rw [r, e]
theorem Chg.grid {z k : Nat} {I I1 : gI} {X X1 : gX} {A A1 : gI} {P : Nat → (Nat → Int32)} (h : Chg z I X A I1 X1 A1) (hk : 17 ≤ k ∧ k + 12 ≤ 70) : Chg z I X A I1 X1 (ovg A1 (z + k) 12 P) := by
  refine h.trans ⟨fun _ _ _ => rfl, fun _ _ _ => rfl, fun a q => ?_⟩
  unfold ovg
  exact if_neg (fun r => q (by unfold Sc; omega))
theorem Chg.IS {z : Nat} {K : gK} {I I' : gI} {X X' : gX} {A A' : gI} {Q : gX} (h : Chg z I X A I' X' A') (hI : IS z K X Q) : IS z K X' Q :=
  IS_same hI fun f hf a _ => h.x f a fun q => by
    have h1 : ¬ 701 ∈ ISf := by decide
    have h2 : ¬ 801 ∈ ISf := by decide
    have h3 : ¬ 904 ∈ ISf := by decide
    rcases q.1 with rfl | rfl | ⟨rfl, -⟩
    · exact h1 hf
    · exact h2 hf
    · exact h3 hf
/-- the model's scratch arrays -/
def ScM (z a : Nat) : Prop := a = z + 128 ∨ (z + 136 ≤ a ∧ a ≤ z + 144) ∨ (z + 147 ≤ a ∧ a ≤ z + 149) ∨ a = z + 151 ∨ (z + 153 ≤ a ∧ a ≤ z + 156) ∨ (z + 158 ≤ a ∧ a ≤ z + 163) ∨ (z + 165 ≤ a ∧ a ≤ z + 167) ∨ (z + 169 ≤ a ∧ a ≤ z + 170)
/-- PailRow's scratch places changed, then the model's -/
theorem Inv.scr {adS : Nat → Nat} {z n : Nat} {K : gK} {I I1 : gI} {J : gJ} {X X1 : gX} {A A1 : gI} {B B1 : gJ} {Q : gX} (hi : Inv adS z K I J X A B Q n) (hc : Chg z I X A I1 X1 A1) {l : List (Nat × Nat × Int32)} {la : List (Nat × (Nat → Int32))}
    (h1 : ∀ p ∈ l, Lo z p.2.1) (h2 : InvF.all (fun f => ovn l f) = true) (h3 : ∀ p ∈ la, ScM z p.1 ∨ p.2 = A1 p.1)
    (hB : B1 (z + 132) = B (z + 132)) (hB2 : B1 (z + 134) = B (z + 134)) (htp : pTape (ov I1 l 1 z) (ov I1 l 1102 (z + 126)) (A (z + 1)) (A (z + 127))) (hb : ov I1 l 1122 (z + 126) = 0 ∨ ov I1 l 1122 (z + 126) = 1) (hw : layF (ov I1 l 1122 (z + 126)) (ova A1 la (z + 128)) = layF (I 1122 (z + 126)) (A (z + 128))) :
    Inv adS z K (ov I1 l) J X1 (ova A1 la) B1 Q n := by
  obtain ⟨hfresh, hIS, hbegun, htold, htape, hfault, hrowby, hdone, hbest, hmore, hhooks, haims, hout, hstrs, hmost, hfire⟩ := hi
  have hS0 := hIS.1.1
  have hS11 := hIS.1.2.1
  have hKz := hS0.1
  have eI : ∀ f, f ∈ InvF → ∀ a, ov I1 l f a = I f a := fun f hf a => by
    rw [ov_no (List.all_eq_true.mp h2 f hf)]
    exact hc.i f a (Or.inl hf)
  have eIl : ∀ f a, ¬ Lo z a → ov I1 l f a = I f a := fun f a q => (ov_fr (fun p hp e => absurd (e ▸ h1 p hp) q)).trans (hc.i f a (Or.inr (Or.inl q)))
  have eA : ∀ k, (k < 128 ∨ (129 ≤ k ∧ k ≤ 135) ∨ k = 145 ∨ k = 146 ∨ k = 150 ∨ k = 152 ∨ k = 157 ∨ k = 164 ∨ k = 168 ∨ 171 ≤ k) → ¬ Sc z (z + k) → ova A1 la (z + k) = A (z + k) := fun k hk hs => by
    refine (ova_fr (fun p hp e => ?_)).trans (hc.a _ hs)
    rcases h3 p hp with r | r
    · unfold ScM at r
      omega
    · rw [r, e]
  have hIS2 := hc.IS hIS
  have e904 : X1 904 (z + 80) = X 904 (z + 80) := hc.x _ _ (by omega)
  obtain ⟨S, htold⟩ := htold.ex
  have hnL : ∀ a, Fz z S a → ¬ Lo z a := fun a q r => r.nz q
  have hFs : ∀ a, Fz z S a → ¬ Sc z a ∧ (a ≤ z + 13 ∨ z + 172 ≤ a) ∧ z ≤ a := fun a q => by
    unfold Fz at q
    unfold Sc
    omega
  have ht : ToldS z S K (ov I1 l) J X1 (ova A1 la) B1 Q (layF (ov I1 l 1122 (z + 126)) (ova A1 la (z + 128))) := by
    refine htold.fr (fun a q => ⟨rfl, fun f => eIl f a (hnL a q), fun _ => rfl, fun f => hc.x f a fun r => hnL a q r.2.1, ?_, rfl⟩) (fun _ _ => rfl) (fun i _ => by rw [hw]) (fun i _ => by rw [hB]) (hc.x _ _ (by omega)) (hc.x _ _ (by omega)) (hc.x _ _ (by omega)) htold.2.1 rfl (eA 131 (by omega) (by unfold Sc; omega)) (eA 135 (by omega) (by unfold Sc; omega)) hB2 (fun k s _ _ _ _ => ⟨rfl, hc.x _ _ (by omega), hc.x _ _ (by omega), hc.x _ _ (by omega)⟩)
    obtain ⟨q1, q2, q3⟩ := hFs a q
    obtain ⟨k, rfl⟩ : ∃ k, a = z + k := ⟨a - z, by omega⟩
    exact eA k (by omega) q1
  have m : ∀ {f : Nat}, InvF.contains f = true → f ∈ InvF := fun h => List.contains_iff_mem.mp h
  have a' : ∀ k, (k = 71 ∨ k = 145 ∨ k = 72 ∨ k = 146 ∨ k = 74 ∨ k = 150 ∨ k = 76 ∨ k = 152 ∨ k = 79 ∨ k = 157 ∨ k = 113 ∨ k = 168 ∨ k = 81 ∨ k = 82 ∨ k = 84 ∨ k = 164 ∨ k = 1 ∨ k = 127) → ova A1 la (z + k) = A (z + k) := fun k hk => eA k (by omega) (by unfold Sc; omega)
  refine ⟨hfresh, hIS2, hb, ht.t, ?_, ?_, ?_, ?_, ?_, ?_, ?_, ?_, ?_, hstrs, ?_, ?_⟩
  · rw [a' 1 (by decide), a' 127 (by decide)]
    exact htp
  · rw [eI 12 (by decide), eI 1110 (by decide)]
    exact hfault
  · rw [eI 19 (by decide), a' 71 (by decide), a' 145 (by decide)]
    exact hrowby
  · rw [eI 22 (by decide), eI 1145 (by decide), a' 72 (by decide), a' 146 (by decide)]
    exact hdone
  · rw [eI 25 (by decide), eI 1151 (by decide), a' 74 (by decide), a' 150 (by decide)]
    exact hbest
  · rw [eI 29 (by decide), eI 1155 (by decide), a' 76 (by decide), a' 152 (by decide)]
    exact hmore
  · rw [eI 33 (by decide), eI 1163 (by decide), a' 79 (by decide), a' 157 (by decide)]
    exact hhooks
  · rw [eI 43 (by decide), eI 1183 (by decide), a' 113 (by decide), a' 168 (by decide)]
    exact haims
  · rw [eI 38 (by decide), eI 39 (by decide), eI 1175 (by decide)]
    exact hout
  · rw [eI 500 (by decide), eI 600 (by decide), eI 1000 (by decide)]
    exact hmost
  · rw [show ov I1 l 304 = I 304 from funext fun a => eI 304 (by decide) a, show ov I1 l 305 = I 305 from funext fun a => eI 305 (by decide) a, eI 38 (by decide), eI 1176 (by decide), eI 1173 (by decide), eI 1174 (by decide), e904, a' 81 (by decide), a' 82 (by decide), a' 84 (by decide), a' 164 (by decide)]
    exact hfire
/-- what is read stays -/
theorem Chg.rd {z : Nat} {I I' : gI} {X X' : gX} {A A' : gI} (h : Chg z I X A I' X' A') {f : Nat} (hf : InvF.contains f = true) : I' f = I f := funext fun a => h.i f a (Or.inl (List.contains_iff_mem.mp hf))
