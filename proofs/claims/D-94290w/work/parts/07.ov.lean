/-! OVERRIDES: a map with some of its places named; the pure functions' words; contracts and calls -/
set_option maxRecDepth 100000
def ndb : List Nat → Bool
  | [] => true
  | a :: l => l.all (fun b => !(b == a)) && ndb l
def ov {α : Type} (I : Nat → Nat → α) : List (Nat × Nat × α) → Nat → Nat → α
  | [] => I
  | e :: l => i_up (ov I l) e.1 e.2.1 e.2.2
def ova {α : Type} (A : Nat → α) : List (Nat × α) → Nat → α
  | [] => A
  | e :: l => a_up (ova A l) e.1 e.2
theorem i_up_idem {α : Type} {I : Nat → Nat → α} {f a : Nat} {v w : α} : i_up (i_up I f a v) f a w = i_up I f a w := by
  funext g b
  unfold i_up
  by_cases hg : g = f <;> by_cases hb : b = a <;> simp [hg, hb]
theorem i_up_comm {α : Type} {I : Nat → Nat → α} {f g a b : Nat} {v w : α} (h : g ≠ f) : i_up (i_up I g b w) f a v = i_up (i_up I f a v) g b w := by
  funext x y
  unfold i_up
  by_cases h1 : x = f
  · have h2 : x ≠ g := fun e => h (e.symm.trans h1)
    by_cases hb : y = a <;> simp [h1, hb, Ne.symm h]
  · by_cases h2 : x = g
    · by_cases hb : y = b <;> simp [h2, hb, h]
    · simp [h1, h2]
theorem i_up_same {α : Type} {I : Nat → Nat → α} {f a : Nat} {v : α} (h : I f a = v) : i_up I f a v = I := by
  funext g b
  unfold i_up
  by_cases hg : g = f
  · subst hg
    by_cases hb : b = a
    · subst hb; simp [h]
    · simp [hb]
  · simp [hg]
theorem a_up_idem {α : Type} {A : Nat → α} {a : Nat} {v w : α} : a_up (a_up A a v) a w = a_up A a w := by
  funext b
  unfold a_up
  by_cases hb : b = a <;> simp [hb]
theorem a_up_comm {α : Type} {A : Nat → α} {a b : Nat} {v w : α} (h : b ≠ a) : a_up (a_up A b w) a v = a_up (a_up A a v) b w := by
  funext x
  unfold a_up
  by_cases h1 : x = a
  · have h2 : x ≠ b := fun e => h (e.symm.trans h1)
    simp [h1, Ne.symm h]
  · by_cases h2 : x = b <;> simp [h2, h, h1]
theorem a_up_same {α : Type} {A : Nat → α} {a : Nat} {v : α} (h : A a = v) : a_up A a v = A := by
  funext b
  unfold a_up
  by_cases hb : b = a
  · subst hb; simp [h]
  · simp [hb]
/-- the p-th place: its field's number stands at no earlier place -/
def ovc {α : Type} (l : List (Nat × Nat × α)) (p f : Nat) : Bool := (l.take p).all (fun e => !(e.1 == f))
theorem ov_set {α : Type} {I : Nat → Nat → α} {f a : Nat} {v w : α} : ∀ {l l' : List (Nat × Nat × α)} (p : Nat), l[p]? = some (f, a, w) → ovc l p f = true → l.set p (f, a, v) = l' → i_up (ov I l) f a v = ov I l'
  | [], _, p, h, _, _ => by simp at h
  | e :: l, _, 0, h, _, h2 => by
    subst h2
    have he : e = (f, a, w) := by simpa using h
    subst he
    exact i_up_idem
  | e :: l, _, p + 1, h, hc, h2 => by
    subst h2
    have h1 : l[p]? = some (f, a, w) := by simpa using h
    have hc' : (!(e.1 == f)) = true ∧ ovc l p f = true := by
      simp only [ovc, List.take_succ_cons, List.all_cons, Bool.and_eq_true] at hc
      exact hc
    have hne : e.1 ≠ f := by simpa using hc'.1
    show i_up (i_up (ov I l) e.1 e.2.1 e.2.2) f a v = i_up (ov I (l.set p (f, a, v))) e.1 e.2.1 e.2.2
    rw [i_up_comm hne, ov_set p h1 hc'.2 rfl]
theorem ov_get {α : Type} {I : Nat → Nat → α} {f a : Nat} {v : α} : ∀ {l : List (Nat × Nat × α)} (p : Nat), l[p]? = some (f, a, v) → ovc l p f = true → ov I l f a = v
  | [], p, h, _ => by simp at h
  | e :: l, 0, h, _ => by
    have he : e = (f, a, v) := by simpa using h
    subst he
    exact i_up_self
  | e :: l, p + 1, h, hc => by
    have h1 : l[p]? = some (f, a, v) := by simpa using h
    have hc' : (!(e.1 == f)) = true ∧ ovc l p f = true := by
      simp only [ovc, List.take_succ_cons, List.all_cons, Bool.and_eq_true] at hc
      exact hc
    have hne : f ≠ e.1 := fun h => by have := hc'.1; simp [h] at this
    show i_up (ov I l) e.1 e.2.1 e.2.2 f a = v
    rw [i_up_f hne]
    exact ov_get p h1 hc'.2
/-- a field that has no place -/
def ovn {α : Type} (l : List (Nat × Nat × α)) (f : Nat) : Bool := l.all (fun e => !(e.1 == f))
theorem ov_no {α : Type} {I : Nat → Nat → α} {f : Nat} : ∀ {l : List (Nat × Nat × α)}, ovn l f = true → ov I l f = I f
  | [], _ => rfl
  | e :: l, h => by
    simp only [ovn, List.all_cons, Bool.and_eq_true] at h
    have hne : f ≠ e.1 := fun h9 => by have := h.1; simp [h9] at this
    show i_up (ov I l) e.1 e.2.1 e.2.2 f = I f
    funext b
    rw [i_up_f hne, ov_no h.2]
/-- the places with what stands there: the map itself -/
theorem ov_self {α : Type} {I : Nat → Nat → α} : ∀ {l : List (Nat × Nat × α)}, (∀ (k : Nat) (e : Nat × Nat × α), l[k]? = some e → I e.1 e.2.1 = e.2.2) → ov I l = I
  | [], _ => rfl
  | e :: l, h => by
    have h1 := ov_self (l := l) fun k q hk => h (k + 1) q (by simpa using hk)
    show i_up (ov I l) e.1 e.2.1 e.2.2 = I
    rw [h1]
    exact i_up_same (h 0 e rfl)
def setl {α : Type} (l : List α) : List Nat → List α → List α
  | p :: ps, e :: es => (setl l ps es).set p e
  | _, _ => l
def ovk {α : Type} (e : Nat × Nat × α) : Nat × Nat := (e.1, e.2.1)
theorem setl_key {α β : Type} (k : α → β) : ∀ (ps : List Nat) (es l : List α), es.map (fun e => some (k e)) = ps.map (fun i => (l[i]?).map k) → (setl l ps es).map k = l.map k
  | [], _, l, _ => rfl
  | p :: ps, [], l, h => by simp at h
  | p :: ps, e :: es, l, h => by
    simp only [List.map_cons, List.cons.injEq] at h
    have ih := setl_key k ps es l h.2
    show ((setl l ps es).set p e).map k = l.map k
    rw [List.map_set, ih]
    apply List.ext_getElem?
    intro i
    rw [List.getElem?_set]
    split
    · rename_i hp
      subst hp
      have h1 := h.1
      cases hl : l[p]? with
      | none => rw [hl] at h1; cases h1
      | some x =>
        rw [hl] at h1
        have hlen : p < (l.map k).length := by rw [List.length_map]; exact (List.getElem?_eq_some_iff.mp hl).1
        rw [if_pos hlen, List.getElem?_map, hl]
        exact h1
    · rfl
theorem nd_ovc {α : Type} : ∀ (l : List (Nat × Nat × α)) (p f : Nat) (e : Nat × Nat × α), ndb (l.map (fun e => e.1)) = true → l[p]? = some e → e.1 = f → ovc l p f = true
  | [], p, f, e, _, h, _ => by simp at h
  | x :: l, 0, f, e, _, _, _ => rfl
  | x :: l, p + 1, f, e, hn, h, hf => by
    simp only [List.map_cons, ndb, Bool.and_eq_true] at hn
    have h1 : l[p]? = some e := by simpa using h
    have ih := nd_ovc l p f e hn.2 h1 hf
    simp only [ovc, List.take_succ_cons, List.all_cons, Bool.and_eq_true]
    refine ⟨?_, ih⟩
    have hm : e.1 ∈ l.map (fun e => e.1) := List.mem_map.mpr ⟨e, List.mem_of_getElem? h1, rfl⟩
    have := List.all_eq_true.mp hn.1 _ hm
    rw [← hf]
    have h2 : e.1 ≠ x.1 := by simpa using this
    simpa using Ne.symm h2
/-- behind a call: what it wrote stands at places that are named here -/
theorem ov_merge {α : Type} {I : Nat → Nat → α} {l l1 : List (Nat × Nat × α)} (hn : ndb (l.map (fun e => e.1)) = true) : ∀ (ps : List Nat) (es : List (Nat × Nat × α)), es.map (fun e => some (ovk e)) = ps.map (fun i => (l[i]?).map ovk) → setl l ps es = l1 → ov (ov I l) es = ov I l1 := by
  suffices key : ∀ (ps : List Nat) (es : List (Nat × Nat × α)), es.map (fun e => some (ovk e)) = ps.map (fun i => (l[i]?).map ovk) → ov (ov I l) es = ov I (setl l ps es) from fun ps es h h1 => by rw [← h1]; exact key ps es h
  intro ps
  induction ps with
  | nil =>
    intro es h
    cases es with
    | nil => rfl
    | cons e es => simp at h
  | cons p ps ih =>
    intro es h
    cases es with
    | nil => simp at h
    | cons e es =>
      have h0 := h
      simp only [List.map_cons, List.cons.injEq] at h
      have hk := setl_key ovk ps es l h.2
      have hget : ((setl l ps es).map ovk)[p]? = some (ovk e) := by
        rw [hk, List.getElem?_map]; exact h.1.symm
      rw [List.getElem?_map] at hget
      cases hx : (setl l ps es)[p]? with
      | none => rw [hx] at hget; cases hget
      | some x =>
        rw [hx] at hget
        have hxe : ovk x = ovk e := Option.some.inj hget
        obtain ⟨x1, x2, x3⟩ := x
        obtain ⟨e1, e2, e3⟩ := e
        simp only [ovk, Prod.mk.injEq] at hxe
        obtain ⟨rfl, rfl⟩ := hxe
        have hn2 : ndb ((setl l ps es).map (fun e => e.1)) = true := by
          have h5 : (setl l ps es).map (fun e => e.1) = l.map (fun e => e.1) := by
            have h6 := congrArg (List.map Prod.fst) hk
            simpa [List.map_map, Function.comp_def, ovk] using h6
          rw [h5]; exact hn
        show i_up (ov (ov I l) es) x1 x2 e3 = ov I ((setl l ps es).set p (x1, x2, e3))
        rw [ih es h.2]
        exact ov_set p hx (nd_ovc _ p x1 _ hn2 hx rfl) rfl
/-! arrays: places by address -/
abbrev nda (l : List Nat) : Prop := l.Nodup
theorem nd_off (o : Nat) (l : List Nat) (h : ndb l = true) : nda (l.map (fun k => o + k)) := by
  induction l with
  | nil => exact List.nodup_nil
  | cons a l ih =>
    simp only [ndb, Bool.and_eq_true] at h
    rw [List.map_cons]
    refine List.nodup_cons.mpr ⟨?_, ih h.2⟩
    intro hm
    obtain ⟨b, hb, e⟩ := List.mem_map.mp hm
    have h1 := List.all_eq_true.mp h.1 b hb
    have h2 : b = a := by omega
    subst h2
    simp at h1
theorem ova_set {α : Type} {A : Nat → α} {a : Nat} {v w : α} : ∀ {l l' : List (Nat × α)} (p : Nat), nda (l.map (fun e => e.1)) → l[p]? = some (a, w) → l.set p (a, v) = l' → a_up (ova A l) a v = ova A l'
  | [], _, p, _, h, _ => by simp at h
  | e :: l, _, 0, _, h, h2 => by
    subst h2
    have he : e = (a, w) := by simpa using h
    subst he
    exact a_up_idem
  | e :: l, _, p + 1, hn, h, h2 => by
    subst h2
    have h1 : l[p]? = some (a, w) := by simpa using h
    rw [List.map_cons] at hn
    have hn' := List.nodup_cons.mp hn
    have hne : e.1 ≠ a := fun q => hn'.1 (q ▸ List.mem_map.mpr ⟨(a, w), List.mem_of_getElem? h1, rfl⟩)
    show a_up (a_up (ova A l) e.1 e.2) a v = a_up (ova A (l.set p (a, v))) e.1 e.2
    rw [a_up_comm hne, ova_set p hn'.2 h1 rfl]
theorem ova_get {α : Type} {A : Nat → α} {a : Nat} {v : α} : ∀ {l : List (Nat × α)} (p : Nat), nda (l.map (fun e => e.1)) → l[p]? = some (a, v) → ova A l a = v
  | [], p, _, h => by simp at h
  | e :: l, 0, _, h => by
    have he : e = (a, v) := by simpa using h
    subst he
    exact a_up_self
  | e :: l, p + 1, hn, h => by
    have h1 : l[p]? = some (a, v) := by simpa using h
    rw [List.map_cons] at hn
    have hn' := List.nodup_cons.mp hn
    have hne : a ≠ e.1 := fun q => hn'.1 (q ▸ List.mem_map.mpr ⟨(a, v), List.mem_of_getElem? h1, rfl⟩)
    show a_up (ova A l) e.1 e.2 a = v
    rw [a_up_ne hne]
    exact ova_get p hn'.2 h1
theorem ova_no {α : Type} {A : Nat → α} {a : Nat} : ∀ {l : List (Nat × α)}, a ∉ l.map (fun e => e.1) → ova A l a = A a
  | [], _ => rfl
  | e :: l, h => by
    rw [List.map_cons, List.mem_cons, not_or] at h
    show a_up (ova A l) e.1 e.2 a = A a
    rw [a_up_ne h.1, ova_no h.2]
theorem ova_self {α : Type} {A : Nat → α} : ∀ {l : List (Nat × α)}, (∀ (k : Nat) (e : Nat × α), l[k]? = some e → A e.1 = e.2) → ova A l = A
  | [], _ => rfl
  | e :: l, h => by
    have h1 := ova_self (l := l) fun k q hk => h (k + 1) q (by simpa using hk)
    show a_up (ova A l) e.1 e.2 = A
    rw [h1]
    exact a_up_same (h 0 e rfl)
theorem ova_merge {α : Type} {A : Nat → α} {l l1 : List (Nat × α)} (hn : nda (l.map (fun e => e.1))) : ∀ (ps : List Nat) (es : List (Nat × α)), es.map (fun e => some e.1) = ps.map (fun i => (l[i]?).map (fun e => e.1)) → setl l ps es = l1 → ova (ova A l) es = ova A l1 := by
  suffices key : ∀ (ps : List Nat) (es : List (Nat × α)), es.map (fun e => some e.1) = ps.map (fun i => (l[i]?).map (fun e => e.1)) → ova (ova A l) es = ova A (setl l ps es) from fun ps es h h1 => by rw [← h1]; exact key ps es h
  intro ps
  induction ps with
  | nil =>
    intro es h
    cases es with
    | nil => rfl
    | cons e es => simp at h
  | cons p ps ih =>
    intro es h
    cases es with
    | nil => simp at h
    | cons e es =>
      simp only [List.map_cons, List.cons.injEq] at h
      have hk := setl_key (fun e : Nat × α => e.1) ps es l h.2
      have hget : ((setl l ps es).map (fun e => e.1))[p]? = some e.1 := by
        rw [hk, List.getElem?_map]; exact h.1.symm
      rw [List.getElem?_map] at hget
      cases hx : (setl l ps es)[p]? with
      | none => rw [hx] at hget; cases hget
      | some x =>
        rw [hx] at hget
        have hxe : x.1 = e.1 := Option.some.inj hget
        obtain ⟨x1, x2⟩ := x
        obtain ⟨e1, e2⟩ := e
        simp only at hxe
        subst hxe
        show a_up (ova (ova A l) es) x1 e2 = ova A ((setl l ps es).set p (x1, e2))
        rw [ih es h.2]
        exact ova_set p (by rw [hk]; exact hn) hx rfl
/-! the pure functions' words -/
def gd {α : Type} (c : Prop) [Decidable c] (x : Option α) : Option α := if c then x else none
def lt {α β : Type} (x : α) (f : α → β) : β := f x
def whl {σ ρ : Type} (step : σ → Option (σ ⊕ ρ)) : Nat → σ → Option ρ
  | 0, _ => none
  | n + 1, s => match step s with
    | none => none
    | some (.inl s') => whl step n s'
    | some (.inr r) => some r
noncomputable def FU : Nat := Classical.choose (⟨100000, Nat.le_refl _⟩ : ∃ n, 100000 ≤ n)
theorem FU_ge : 100000 ≤ FU := Classical.choose_spec (⟨100000, Nat.le_refl _⟩ : ∃ n, 100000 ≤ n)
theorem el_l {α β γ : Type} {f : α → γ} {g : β → γ} {x : α} {o : γ} (h : Sum.elim f g (.inl x) = o) : f x = o := h
theorem el_r {α β γ : Type} {f : α → γ} {g : β → γ} {x : β} {o : γ} (h : Sum.elim f g (.inr x) = o) : g x = o := h
theorem gd_some {α : Type} {c : Prop} [Decidable c] {x : Option α} {o : α} (h : gd c x = some o) : c ∧ x = some o := by
  unfold gd at h
  split at h
  · exact ⟨by assumption, h⟩
  · cases h
theorem lt_some {α β : Type} {x : α} {f : α → β} {o : β} (h : lt x f = o) : ∃ v, v = x ∧ f v = o := ⟨x, rfl, h⟩
theorem ite_t {α : Type} {c : Prop} [Decidable c] {x y o : α} (hc : c) (h : (if c then x else y) = o) : x = o := by rw [if_pos hc] at h; exact h
theorem ite_f {α : Type} {c : Prop} [Decidable c] {x y o : α} (hc : ¬ c) (h : (if c then x else y) = o) : y = o := by rw [if_neg hc] at h; exact h
theorem bind_s {α β : Type} {x : Option α} {f : α → Option β} {o : β} (h : x.bind f = some o) : ∃ v, x = some v ∧ f v = some o := by
  cases x with
  | none => cases h
  | some v => exact ⟨v, rfl, h⟩
theorem some_i {α : Type} {x o : α} (h : some x = some o) : x = o := Option.some.inj h
theorem whl_walk {σ ρ : Type} {step : σ → Option (σ ⊕ ρ)} {P : σ → Prop} {r : ρ} (hs : ∀ s o, step s = some o → (match o with | .inl s' => P s' | .inr r' => r' = r) → P s) : ∀ n s, whl step n s = some r → P s := by
  intro n
  induction n with
  | zero => intro s h; cases h
  | succ n ih =>
    intro s h
    unfold whl at h
    cases ho : step s with
    | none => rw [ho] at h; cases h
    | some o =>
      rw [ho] at h
      cases o with
      | inl s' => exact hs s _ ho (ih s' h)
      | inr r' => exact hs s _ ho (Option.some.inj h)
