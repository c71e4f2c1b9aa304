/-! MORE ROWS, for PailRow's classes: calls of nest mates, inherited and super methods, Math, arraycopy, refs that may be null -/
set_option maxRecDepth 100000
abbrev zb (x : Int32) : Prop := x &&& 1 = x
abbrev cp_ok (sp dp n : Int32) (n0 n1 : Nat) : Prop := ¬ sp < 0 ∧ ¬ dp < 0 ∧ ¬ n < 0 ∧ sp.toNatClampNeg + n.toNatClampNeg ≤ n0 ∧ dp.toNatClampNeg + n.toNatClampNeg ≤ n1
theorem zb_fits {x : Int32} (h : zb x) : fits .boolean (.int x) = true := by
  have h1 := fits_narrow_b x
  simp only [narrow] at h1
  rw [show x &&& 1 = x from h] at h1
  exact h1
theorem ov_ne {α : Type} {I : Nat → Nat → α} {f a : Nat} : ∀ {l : List (Nat × Nat × α)}, (∀ e ∈ l, e.1 ≠ f ∨ e.2.1 ≠ a) → ov I l f a = I f a
  | [], _ => rfl
  | e :: l, h => by
    have h1 := h e List.mem_cons_self
    show i_up (ov I l) e.1 e.2.1 e.2.2 f a = I f a
    have h2 := ov_ne (I := I) (l := l) fun q hq => h q (List.mem_cons_of_mem _ hq)
    rcases h1 with h1 | h1
    · rw [i_up_f (Ne.symm h1), h2]
    · rw [i_up_a (Ne.symm h1), h2]
theorem inb_lt {i : Int32} {n : Nat} (h : inb i n) : i.toNatClampNeg < n := Nat.not_le.mp fun q => h (Or.inr q)
theorem man_k {K : gK} {q : Nat → Option Nat} {o : Option Nat} {m : Nat} (hman : ∀ (j m : Nat), q j = some m → K m = some (.inl 12)) (h : ∃ j, o = q j) (hm : o = some m) : K m = some (.inl 12) := by
  obtain ⟨j, e⟩ := h
  exact hman j m (e.symm.trans hm)
/-- a row of arrays, b its first's address -/
def ovg {α : Type} (A : Nat → α) (b n : Nat) (g : Nat → α) : Nat → α := fun a => if b ≤ a ∧ a < b + n then g (a - b) else A a
theorem ovg_get {α : Type} {A : Nat → α} {b n : Nat} {g : Nat → α} {j : Nat} (h : j < n) : ovg A b n g (b + j) = g j := by
  unfold ovg
  rw [if_pos (by omega), Nat.add_sub_cancel_left]
theorem ovg_self {α : Type} {A : Nat → α} {b n : Nat} {g : Nat → α} (h : ∀ j, j < n → A (b + j) = g j) : ovg A b n g = A := by
  funext a
  unfold ovg
  split
  · rename_i h1
    have h2 := h (a - b) (by omega)
    rw [← h2]
    congr 1
    omega
  · rfl
theorem ovg_up {α : Type} {A : Nat → α} {b n : Nat} {g : Nat → α} {j : Nat} {v : α} (h : j < n) : a_up (ovg A b n g) (b + j) v = ovg A b n (a_up g j v) := by
  funext a
  unfold a_up ovg
  by_cases h1 : a = b + j
  · subst h1
    rw [if_pos rfl, if_pos (by omega), Nat.add_sub_cancel_left]
    exact (if_pos rfl).symm
  · rw [if_neg h1]
    by_cases h2 : b ≤ a ∧ a < b + n
    · rw [if_pos h2, if_pos h2]
      exact (if_neg (by omega)).symm
    · rw [if_neg h2, if_neg h2]
theorem ovg_idem {α : Type} {A : Nat → α} {b n : Nat} {g g' : Nat → α} : ovg (ovg A b n g) b n g' = ovg A b n g' := by
  funext a
  unfold ovg
  by_cases h2 : b ≤ a ∧ a < b + n
  · rw [if_pos h2, if_pos h2]
  · rw [if_neg h2, if_neg h2, if_neg h2]
theorem ovg_a_up {α : Type} {A : Nat → α} {b n : Nat} {g : Nat → α} {a : Nat} {v : α} (h : ¬ (b ≤ a ∧ a < b + n)) : ovg (a_up A a v) b n g = a_up (ovg A b n g) a v := by
  funext x
  unfold a_up ovg
  by_cases h1 : x = a
  · subst h1
    simp [h]
  · by_cases h2 : b ≤ x ∧ x < b + n <;> simp [h1, h2]
theorem ovg_ova {α : Type} {A : Nat → α} {b n : Nat} {g : Nat → α} : ∀ {l : List (Nat × α)}, (∀ e ∈ l, ¬ (b ≤ e.1 ∧ e.1 < b + n)) → ovg (ova A l) b n g = ova (ovg A b n g) l
  | [], _ => rfl
  | e :: l, h => by
    show ovg (a_up (ova A l) e.1 e.2) b n g = a_up (ova (ovg A b n g) l) e.1 e.2
    rw [ovg_a_up (h e List.mem_cons_self), ovg_ova fun q hq => h q (List.mem_cons_of_mem _ hq)]
theorem ovg_merge {α : Type} {A : Nat → α} {b n : Nat} {g g' : Nat → α} {l : List (Nat × α)} (h : ∀ e ∈ l, ¬ (b ≤ e.1 ∧ e.1 < b + n)) : ovg (ova (ovg A b n g) l) b n g' = ova (ovg A b n g') l := by
  rw [ovg_ova h, ovg_idem]
theorem ova_up_out {α : Type} {A : Nat → α} {a : Nat} {v : α} : ∀ {l : List (Nat × α)}, a ∉ l.map (fun e => e.1) → a_up (ova A l) a v = ova (a_up A a v) l
  | [], _ => rfl
  | e :: l, h => by
    rw [List.map_cons, List.mem_cons, not_or] at h
    show a_up (a_up (ova A l) e.1 e.2) a v = a_up (ova (a_up A a v) l) e.1 e.2
    rw [a_up_comm (Ne.symm h.1), ova_up_out h.2]
theorem nd_sub {l l' : List Nat} (h : nda l) (ps : List Nat) (hp : ps.Nodup) (e : ps.map (fun i => l[i]?) = l'.map some) : nda l' := by
  have h1 : ∀ (i j : Nat) (a : Nat), l[i]? = some a → l[j]? = some a → i = j := by
    intro i j a hi hj
    exact (List.getElem?_inj (List.getElem?_eq_some_iff.mp hi).1 h).mp (hi.trans hj.symm)
  clear h
  induction ps generalizing l' with
  | nil =>
    cases l' with
    | nil => exact List.nodup_nil
    | cons a l' => simp at e
  | cons p ps ih =>
    cases l' with
    | nil => exact List.nodup_nil
    | cons a l' =>
      simp only [List.map_cons, List.cons.injEq] at e
      have hp2 := List.nodup_cons.mp hp
      refine List.nodup_cons.mpr ⟨fun hm => ?_, ih hp2.2 e.2⟩
      have h2 : some a ∈ l'.map some := List.mem_map.mpr ⟨a, hm, rfl⟩
      rw [← e.2] at h2
      obtain ⟨j, hj, ej⟩ := List.mem_map.mp h2
      exact hp2.1 (h1 p j a e.1 ej ▸ hj)
theorem ovp_get {α : Type} {I : Nat → Nat → α} {f a : Nat} {v : α} : ∀ {l : List (Nat × Nat × α)} (p : Nat), (l.map ovk).Nodup → l[p]? = some (f, a, v) → ov I l f a = v
  | [], p, _, h => by simp at h
  | e :: l, 0, _, h => by
    have he : e = (f, a, v) := by simpa using h
    subst he
    exact i_up_self
  | e :: l, p + 1, hn, h => by
    have h1 : l[p]? = some (f, a, v) := by simpa using h
    rw [List.map_cons] at hn
    have hn' := List.nodup_cons.mp hn
    have hm : ovk (f, a, v) ∈ l.map ovk := List.mem_map.mpr ⟨_, List.mem_of_getElem? h1, rfl⟩
    show i_up (ov I l) e.1 e.2.1 e.2.2 f a = v
    have h3 := ovp_get (I := I) p hn'.2 h1
    by_cases hf : f = e.1
    · have ha : a ≠ e.2.1 := fun q => hn'.1 (by rw [show ovk e = ovk (f, a, v) from by simp [ovk, hf, q]]; exact hm)
      rw [i_up_a ha]; exact h3
    · rw [i_up_f hf]; exact h3
theorem i_up_comm2 {α : Type} {I : Nat → Nat → α} {f g a b : Nat} {v w : α} (h : ¬ (g = f ∧ b = a)) : i_up (i_up I g b w) f a v = i_up (i_up I f a v) g b w := by
  by_cases hg : g = f
  · subst hg
    have hb : b ≠ a := fun q => h ⟨rfl, q⟩
    funext x y
    unfold i_up
    by_cases h1 : x = g
    · subst h1
      by_cases h2 : y = a
      · subst h2; simp [Ne.symm hb]
      · by_cases h3 : y = b <;> simp [h2, h3, hb]
    · simp [h1]
  · exact i_up_comm hg
theorem ovp_set {α : Type} {I : Nat → Nat → α} {f a : Nat} {v w : α} : ∀ {l l' : List (Nat × Nat × α)} (p : Nat), (l.map ovk).Nodup → l[p]? = some (f, a, w) → l.set p (f, a, v) = l' → i_up (ov I l) f a v = ov I l'
  | [], _, p, _, h, _ => by simp at h
  | e :: l, _, 0, _, h, h2 => by
    subst h2
    have he : e = (f, a, w) := by simpa using h
    subst he
    exact i_up_idem
  | e :: l, _, p + 1, hn, h, h2 => by
    subst h2
    have h1 : l[p]? = some (f, a, w) := by simpa using h
    rw [List.map_cons] at hn
    have hn' := List.nodup_cons.mp hn
    have hm : ovk (f, a, w) ∈ l.map ovk := List.mem_map.mpr ⟨_, List.mem_of_getElem? h1, rfl⟩
    show i_up (i_up (ov I l) e.1 e.2.1 e.2.2) f a v = i_up (ov I (l.set p (f, a, v))) e.1 e.2.1 e.2.2
    rw [i_up_comm2 (fun q => hn'.1 (by rw [show ovk e = ovk (f, a, w) from by simp [ovk, q.1, q.2]]; exact hm)), ovp_set p hn'.2 h1 rfl]
theorem ovp_merge {α : Type} {I : Nat → Nat → α} {l l1 : List (Nat × Nat × α)} (hn : (l.map ovk).Nodup) : ∀ (ps : List Nat) (es : List (Nat × Nat × α)), es.map (fun e => some (ovk e)) = ps.map (fun i => (l[i]?).map ovk) → setl l ps es = l1 → ov (ov I l) es = ov I l1 := by
  suffices key : ∀ (ps : List Nat) (es : List (Nat × Nat × α)), es.map (fun e => some (ovk e)) = ps.map (fun i => (l[i]?).map ovk) → ov (ov I l) es = ov I (setl l ps es) from fun ps es h h1 => by rw [← h1]; exact key ps es h
  intro ps
  induction ps with
  | nil =>
    intro es h
    cases es with
    | nil => rfl
    | cons e es => simp at h
  | cons p ps ih =>
    intro es h
    cases es with
    | nil => simp at h
    | cons e es =>
      simp only [List.map_cons, List.cons.injEq] at h
      have hk := setl_key ovk ps es l h.2
      have hget : ((setl l ps es).map ovk)[p]? = some (ovk e) := by
        rw [hk, List.getElem?_map]; exact h.1.symm
      rw [List.getElem?_map] at hget
      cases hx : (setl l ps es)[p]? with
      | none => rw [hx] at hget; cases hget
      | some x =>
        rw [hx] at hget
        have hxe : ovk x = ovk e := Option.some.inj hget
        obtain ⟨x1, x2, x3⟩ := x
        obtain ⟨e1, e2, e3⟩ := e
        simp only [ovk, Prod.mk.injEq] at hxe
        obtain ⟨rfl, rfl⟩ := hxe
        show i_up (ov (ov I l) es) x1 x2 e3 = ov I ((setl l ps es).set p (x1, x2, e3))
        rw [ih es h.2]
        exact ovp_set p (by rw [hk]; exact hn) hx rfl
theorem ova_in {α : Type} {A1 A2 : Nat → α} {a : Nat} : ∀ {l : List (Nat × α)}, a ∈ l.map (fun e => e.1) → ova A1 l a = ova A2 l a
  | [], h => absurd h List.not_mem_nil
  | e :: l, h => by
    show a_up (ova A1 l) e.1 e.2 a = a_up (ova A2 l) e.1 e.2 a
    by_cases h1 : a = e.1
    · subst h1; rw [a_up_self, a_up_self]
    · rw [a_up_ne h1, a_up_ne h1]
      rw [List.map_cons, List.mem_cons] at h
      exact ova_in (h.resolve_left h1)
/-- behind a call that may write all that is named here -/
theorem ova_over {α : Type} {A : Nat → α} {l es : List (Nat × α)} (h : l.map (fun e => e.1) = es.map (fun e => e.1)) : ova (ova A l) es = ova A es := by
  funext a
  by_cases h1 : a ∈ es.map (fun e => e.1)
  · exact ova_in h1
  · rw [ova_no h1, ova_no h1, ova_no (by rw [h]; exact h1)]
theorem ov_in {α : Type} {I1 I2 : Nat → Nat → α} {f a : Nat} : ∀ {l : List (Nat × Nat × α)}, (f, a) ∈ l.map ovk → ov I1 l f a = ov I2 l f a
  | [], h => absurd h List.not_mem_nil
  | e :: l, h => by
    show i_up (ov I1 l) e.1 e.2.1 e.2.2 f a = i_up (ov I2 l) e.1 e.2.1 e.2.2 f a
    by_cases h1 : f = e.1 ∧ a = e.2.1
    · obtain ⟨h2, h3⟩ := h1
      subst h2; subst h3; rw [i_up_self, i_up_self]
    · rw [List.map_cons, List.mem_cons] at h
      have h4 : (f, a) ∈ l.map ovk := h.resolve_left fun q => h1 (by simp only [ovk, Prod.mk.injEq] at q; exact q)
      have ih := ov_in (I1 := I1) (I2 := I2) h4
      by_cases h5 : f = e.1
      · have h6 : a ≠ e.2.1 := fun q => h1 ⟨h5, q⟩
        rw [i_up_a h6, i_up_a h6, ih]
      · rw [i_up_f h5, i_up_f h5, ih]
theorem ov_over {α : Type} {I : Nat → Nat → α} {l es : List (Nat × Nat × α)} (h : l.map ovk = es.map ovk) : ov (ov I l) es = ov I es := by
  funext f a
  by_cases h1 : (f, a) ∈ es.map ovk
  · exact ov_in h1
  · have out : ∀ l : List (Nat × Nat × α), (f, a) ∉ l.map ovk → ∀ I : Nat → Nat → α, ov I l f a = I f a := by
      intro l hl I
      refine ov_ne fun e he => ?_
      by_cases hf : e.1 = f
      · exact Or.inr fun q => hl (List.mem_map.mpr ⟨e, he, by simp [ovk, hf, q]⟩)
      · exact Or.inl hf
    rw [out es h1, out es h1, out l (by rw [h]; exact h1)]
theorem map_at {α β : Type} {l l1 : List α} {k : α → β} (h : l1.map k = l.map k) (i : Nat) : (l1[i]?).map k = (l[i]?).map k := by
  rw [← List.getElem?_map, ← List.getElem?_map, h]
/-- behind a call: l1 has what it wrote at the places ps, what it did not at the places ks -/
theorem ova_mix {α : Type} {A : Nat → α} {l es l1 : List (Nat × α)} (hn : nda (l.map (fun e => e.1))) (hk : l1.map (fun e => e.1) = l.map (fun e => e.1)) (ps ks : List Nat) (n : Nat) (hlen : l.length = n) (hall : (List.range n).all (fun i => decide (i ∈ ps) || decide (i ∈ ks)) = true)
    (he : es.map some = ps.map (fun i => l1[i]?)) (hkeep : ks.map (fun i => l1[i]?) = ks.map (fun i => l[i]?)) : ova (ova A l) es = ova A l1 := by
  have hn1 : nda (l1.map (fun e => e.1)) := by rw [hk]; exact hn
  have hin : ∀ e ∈ es, e ∈ l1 := by
    intro e h
    have h1 : some e ∈ es.map some := List.mem_map.mpr ⟨e, h, rfl⟩
    rw [he] at h1
    obtain ⟨i, -, hi⟩ := List.mem_map.mp h1
    exact List.mem_of_getElem? hi
  have val : ∀ (m : List (Nat × α)) (B : Nat → α) (a : Nat), a ∈ m.map (fun e => e.1) → ∃ v, (a, v) ∈ m ∧ ova B m a = v := by
    intro m B a
    induction m with
    | nil => intro h; exact absurd h List.not_mem_nil
    | cons e m ih =>
      intro h
      by_cases h1 : a = e.1
      · subst h1
        exact ⟨e.2, List.mem_cons_self, a_up_self⟩
      · rw [List.map_cons, List.mem_cons] at h
        obtain ⟨v, h2, h3⟩ := ih (h.resolve_left h1)
        refine ⟨v, List.mem_cons_of_mem _ h2, ?_⟩
        show a_up (ova B m) e.1 e.2 a = v
        rw [a_up_ne h1]; exact h3
  have getv : ∀ (m : List (Nat × α)) (B : Nat → α) (a : Nat) (v : α), nda (m.map (fun e => e.1)) → (a, v) ∈ m → ova B m a = v := by
    intro m B a v hm h
    obtain ⟨i, hi⟩ := List.getElem?_of_mem h
    exact ova_get i hm hi
  funext a
  by_cases h1 : a ∈ es.map (fun e => e.1)
  · obtain ⟨v, h2, h3⟩ := val es (ova A l) a h1
    rw [h3]
    exact (getv l1 A a v hn1 (hin _ h2)).symm
  · rw [ova_no h1]
    by_cases h2 : a ∈ l.map (fun e => e.1)
    · obtain ⟨i, hi⟩ := List.getElem?_of_mem h2
      rw [List.getElem?_map] at hi
      cases hl : l[i]? with
      | none => rw [hl] at hi; cases hi
      | some x =>
        rw [hl] at hi
        have hx : x.1 = a := Option.some.inj hi
        have hil : i < n := by rw [← hlen]; exact (List.getElem?_eq_some_iff.mp hl).1
        have h3 := List.all_eq_true.mp hall i (List.mem_range.mpr hil)
        simp only [Bool.or_eq_true, decide_eq_true_eq] at h3
        have h4 : l1[i]? = some x := by
          rcases h3 with h3 | h3
          · exfalso
            have h5 : l1[i]? ∈ ps.map (fun i => l1[i]?) := List.mem_map.mpr ⟨i, h3, rfl⟩
            rw [← he] at h5
            obtain ⟨e, he1, he2⟩ := List.mem_map.mp h5
            have h6 := map_at hk i
            rw [← he2, hl] at h6
            have h7 : e.1 = x.1 := Option.some.inj h6
            exact h1 (List.mem_map.mpr ⟨e, he1, h7.trans hx⟩)
          · obtain ⟨j, hj⟩ := List.getElem?_of_mem h3
            have h5 : (ks.map (fun i => l1[i]?))[j]? = (ks.map (fun i => l[i]?))[j]? := by rw [hkeep]
            rw [List.getElem?_map, List.getElem?_map, hj] at h5
            have h6 : l1[i]? = l[i]? := Option.some.inj h5
            rw [h6, hl]
        obtain ⟨xa, xv⟩ := x
        simp only at hx
        subst hx
        rw [ova_get i hn hl, ova_get i hn1 h4]
    · rw [ova_no h2, ova_no (by rw [hk]; exact h2)]
theorem ov_out {α : Type} {f a : Nat} {l : List (Nat × Nat × α)} (hl : (f, a) ∉ l.map ovk) (I : Nat → Nat → α) : ov I l f a = I f a := by
  refine ov_ne fun e he => ?_
  by_cases hf : e.1 = f
  · exact Or.inr fun q => hl (List.mem_map.mpr ⟨e, he, by simp [ovk, hf, q]⟩)
  · exact Or.inl hf
theorem nd_key {α : Type} : ∀ {l : List (Nat × Nat × α)}, ndb (l.map (fun e => e.1)) = true → (l.map ovk).Nodup
  | [], _ => List.nodup_nil
  | e :: l, h => by
    simp only [List.map_cons, ndb, Bool.and_eq_true] at h
    rw [List.map_cons]
    refine List.nodup_cons.mpr ⟨fun hm => ?_, nd_key h.2⟩
    obtain ⟨q, hq, eq⟩ := List.mem_map.mp hm
    have h1 := List.all_eq_true.mp h.1 q.1 (List.mem_map.mpr ⟨q, hq, rfl⟩)
    have h2 : q.1 = e.1 := (Prod.mk.injEq _ _ _ _ ▸ eq : q.1 = e.1 ∧ q.2.1 = e.2.1).1
    simp [h2] at h1
theorem ov_mix {α : Type} {I : Nat → Nat → α} {l es l1 : List (Nat × Nat × α)} (hn : (l.map ovk).Nodup) (hk : l1.map ovk = l.map ovk) (ps ks : List Nat) (n : Nat) (hlen : l.length = n) (hall : (List.range n).all (fun i => decide (i ∈ ps) || decide (i ∈ ks)) = true)
    (he : es.map some = ps.map (fun i => l1[i]?)) (hkeep : ks.map (fun i => l1[i]?) = ks.map (fun i => l[i]?)) : ov (ov I l) es = ov I l1 := by
  have hn1 : (l1.map ovk).Nodup := by rw [hk]; exact hn
  have hin : ∀ e ∈ es, e ∈ l1 := by
    intro e h
    have h1 : some e ∈ es.map some := List.mem_map.mpr ⟨e, h, rfl⟩
    rw [he] at h1
    obtain ⟨i, -, hi⟩ := List.mem_map.mp h1
    exact List.mem_of_getElem? hi
  have val : ∀ (m : List (Nat × Nat × α)) (B : Nat → Nat → α) (f a : Nat), (f, a) ∈ m.map ovk → ∃ v, (f, a, v) ∈ m ∧ ov B m f a = v := by
    intro m B f a
    induction m with
    | nil => intro h; exact absurd h List.not_mem_nil
    | cons e m ih =>
      intro h
      by_cases h1 : f = e.1 ∧ a = e.2.1
      · obtain ⟨h2, h3⟩ := h1
        subst h2; subst h3
        exact ⟨e.2.2, List.mem_cons_self, i_up_self⟩
      · rw [List.map_cons, List.mem_cons] at h
        obtain ⟨v, h2, h3⟩ := ih (h.resolve_left fun q => h1 (by simp only [ovk, Prod.mk.injEq] at q; exact q))
        refine ⟨v, List.mem_cons_of_mem _ h2, ?_⟩
        show i_up (ov B m) e.1 e.2.1 e.2.2 f a = v
        by_cases h5 : f = e.1
        · rw [i_up_a (fun q => h1 ⟨h5, q⟩)]; exact h3
        · rw [i_up_f h5]; exact h3
  have getv : ∀ (m : List (Nat × Nat × α)) (B : Nat → Nat → α) (f a : Nat) (v : α), (m.map ovk).Nodup → (f, a, v) ∈ m → ov B m f a = v := by
    intro m B f a v hm h
    obtain ⟨i, hi⟩ := List.getElem?_of_mem h
    exact ovp_get i hm hi
  funext f a
  by_cases h1 : (f, a) ∈ es.map ovk
  · obtain ⟨v, h2, h3⟩ := val es (ov I l) f a h1
    rw [h3]
    exact (getv l1 I f a v hn1 (hin _ h2)).symm
  · rw [ov_out h1]
    by_cases h2 : (f, a) ∈ l.map ovk
    · obtain ⟨i, hi⟩ := List.getElem?_of_mem h2
      rw [List.getElem?_map] at hi
      cases hl : l[i]? with
      | none => rw [hl] at hi; cases hi
      | some x =>
        rw [hl] at hi
        have hx : ovk x = (f, a) := Option.some.inj hi
        have hil : i < n := by rw [← hlen]; exact (List.getElem?_eq_some_iff.mp hl).1
        have h3 := List.all_eq_true.mp hall i (List.mem_range.mpr hil)
        simp only [Bool.or_eq_true, decide_eq_true_eq] at h3
        have h4 : l1[i]? = some x := by
          rcases h3 with h3 | h3
          · exfalso
            have h5 : l1[i]? ∈ ps.map (fun i => l1[i]?) := List.mem_map.mpr ⟨i, h3, rfl⟩
            rw [← he] at h5
            obtain ⟨e, he1, he2⟩ := List.mem_map.mp h5
            have h6 := map_at hk i
            rw [← he2, hl] at h6
            have h7 : ovk e = ovk x := Option.some.inj h6
            exact h1 (List.mem_map.mpr ⟨e, he1, h7.trans hx⟩)
          · obtain ⟨j, hj⟩ := List.getElem?_of_mem h3
            have h5 : (ks.map (fun i => l1[i]?))[j]? = (ks.map (fun i => l[i]?))[j]? := by rw [hkeep]
            rw [List.getElem?_map, List.getElem?_map, hj] at h5
            have h6 : l1[i]? = l[i]? := Option.some.inj h5
            rw [h6, hl]
        obtain ⟨xf, xa, xv⟩ := x
        simp only [ovk, Prod.mk.injEq] at hx
        obtain ⟨rfl, rfl⟩ := hx
        rw [ovp_get i hn hl, ovp_get i hn1 h4]
    · rw [ov_out h2, ov_out (by rw [hk]; exact h2)]
section GX0
variable {p : Program} {l : Launch} {e : Env} {R : Room} {s : State} {m : MethodId} {args : Array Value} {below : List Frame} {meth : Method} {c : Code} {H H0 : Heap} {locs : List Loc} {cells slots : Nat} {Z : State → Prop}
variable {cc code : ByteArray} {pc nL maxL n : Nat} {ret : Option FieldType} {ls : Array Slot} {rest st0 As : List Value} {G : gG} {K K' : gK} {I I' : gI} {J J' : gJ} {X X' : gX} {A A' : gI} {B B' : gJ} {Q Q' : gX} {a b index ci : Nat} {own C host owner : String} {y x : MethodName}
theorem g0_cSN {v : Value} {rm : Nat × Nat} (S : CallFix p m c cc nL s args lw_all own) (hG : GC G s) (hR : RS G K I J X A B Q H) (hS : va_S (gA G) H0 H locs)
    (hM : GMet l y code maxL ret rm.1 rm.2 G As K I J X A B Q (some v) K' I' J' X' A' B' Q' 0 0)
    (cw : va_CN R s args own index y host code maxL ret (ws_ y code maxL ret) ({ frames := rm.1, cells := 0, slots := 0, locals := rm.2 }) 0 0 n ∧ (Cond.static y).before args s = true ∧ True)
    (hn : As.length = n) (hsize : ls.size = nL) (hW : (rest.map fun v => v.category).sum ≤ 8) (hdg : decode cc pc = .ok (.invokestatic index, 3)) (hf : cells ≤ R.cells ∧ slots ≤ R.slots) (hstack : st0 = As.reverse ++ rest)
    (kk : ∀ (H1 : Heap) (locs1 : List Loc), RS G K' I' J' X' A' B' Q' H1 → va_S (gA G) H0 H1 locs1 → W p l e R s m args below meth c H1 locs1 cells slots Z (F0 m (pc + 3) ls (v :: rest))) : W p l e R s m args below meth c H locs cells slots Z (F0 m pc ls st0) :=
  g_run (va_runSN S hM cw (g_preS hG hR) rfl hn hsize hstack (lv_room hW) hdg hf) hS kk
theorem g0_cSNv {rm : Nat × Nat} (S : CallFix p m c cc nL s args lw_all own) (hG : GC G s) (hR : RS G K I J X A B Q H) (hS : va_S (gA G) H0 H locs)
    (hM : GMet l y code maxL ret rm.1 rm.2 G As K I J X A B Q none K' I' J' X' A' B' Q' 0 0)
    (cw : va_CN R s args own index y host code maxL ret (ws_ y code maxL ret) ({ frames := rm.1, cells := 0, slots := 0, locals := rm.2 }) 0 0 n ∧ (Cond.static y).before args s = true ∧ True)
    (hn : As.length = n) (hsize : ls.size = nL) (hW : (rest.map fun v => v.category).sum ≤ 8) (hdg : decode cc pc = .ok (.invokestatic index, 3)) (hf : cells ≤ R.cells ∧ slots ≤ R.slots) (hstack : st0 = As.reverse ++ rest)
    (kk : ∀ (H1 : Heap) (locs1 : List Loc), RS G K' I' J' X' A' B' Q' H1 → va_S (gA G) H0 H1 locs1 → W p l e R s m args below meth c H1 locs1 cells slots Z (F0 m (pc + 3) ls rest)) : W p l e R s m args below meth c H locs cells slots Z (F0 m pc ls st0) :=
  g_run (va_runSN S hM cw (g_preS hG hR) rfl hn hsize hstack (lv_room hW) hdg hf) hS kk
/-- a method found by the receiver's class -/
theorem g0_cU {T : u_T} {N : Nat} {v : Value} {rm : Nat × Nat} (S : CallFix p m c cc nL s args lw_all own) (hG : GC G s) (hR : RS G K I J X A B Q H) (hS : va_S (gA G) H0 H locs)
    (hM : GMet l y code maxL ret rm.1 rm.2 G (.ref b :: As) K I J X A B Q (some v) K' I' J' X' A' B' Q' 0 0)
    (cw : va_CU R s args own C owner index x y code maxL ret (ws_ y code maxL ret) ({ frames := rm.1, cells := 0, slots := 0, locals := rm.2 }) 0 0 n)
    (hk : K b = some (.inl ci)) (hc : gCl[ci]? = some (C, T, N)) (hn : As.length = n) (hsize : ls.size = nL) (hW : (rest.map fun v => v.category).sum ≤ 8) (hdg : decode cc pc = .ok (.invokevirtual index, 3)) (hf : cells ≤ R.cells ∧ slots ≤ R.slots) (hstack : st0 = As.reverse ++ .ref b :: rest)
    (kk : ∀ (H1 : Heap) (locs1 : List Loc), RS G K' I' J' X' A' B' Q' H1 → va_S (gA G) H0 H1 locs1 → W p l e R s m args below meth c H1 locs1 cells slots Z (F0 m (pc + 3) ls (v :: rest))) : W p l e R s m args below meth c H locs cells slots Z (F0 m pc ls st0) :=
  g_run (va_runU S hM cw (g_preV hG hR hk hc) rfl hn hsize hstack (lv_room hW) hdg hf) hS kk
theorem g0_cUv {T : u_T} {N : Nat} {rm : Nat × Nat} (S : CallFix p m c cc nL s args lw_all own) (hG : GC G s) (hR : RS G K I J X A B Q H) (hS : va_S (gA G) H0 H locs)
    (hM : GMet l y code maxL ret rm.1 rm.2 G (.ref b :: As) K I J X A B Q none K' I' J' X' A' B' Q' 0 0)
    (cw : va_CU R s args own C owner index x y code maxL ret (ws_ y code maxL ret) ({ frames := rm.1, cells := 0, slots := 0, locals := rm.2 }) 0 0 n)
    (hk : K b = some (.inl ci)) (hc : gCl[ci]? = some (C, T, N)) (hn : As.length = n) (hsize : ls.size = nL) (hW : (rest.map fun v => v.category).sum ≤ 8) (hdg : decode cc pc = .ok (.invokevirtual index, 3)) (hf : cells ≤ R.cells ∧ slots ≤ R.slots) (hstack : st0 = As.reverse ++ .ref b :: rest)
    (kk : ∀ (H1 : Heap) (locs1 : List Loc), RS G K' I' J' X' A' B' Q' H1 → va_S (gA G) H0 H1 locs1 → W p l e R s m args below meth c H1 locs1 cells slots Z (F0 m (pc + 3) ls rest)) : W p l e R s m args below meth c H locs cells slots Z (F0 m pc ls st0) :=
  g_run (va_runU S hM cw (g_preV hG hR hk hc) rfl hn hsize hstack (lv_room hW) hdg hf) hS kk
/-- super.m(..) -/
theorem g0_cSUv {T : u_T} {N : Nat} {rm : Nat × Nat} (S : CallFix p m c cc nL s args lw_all own) (hG : GC G s) (hR : RS G K I J X A B Q H) (hS : va_S (gA G) H0 H locs)
    (hM : GMet l y code maxL ret rm.1 rm.2 G (.ref b :: As) K I J X A B Q none K' I' J' X' A' B' Q' 0 0)
    (cw : va_CS R s args own index y code maxL ret (ws_ y code maxL ret) ({ frames := rm.1, cells := 0, slots := 0, locals := rm.2 }) 0 0 n)
    (hk : K b = some (.inl ci)) (hc : gCl[ci]? = some (C, T, N)) (hn : As.length = n) (hsize : ls.size = nL) (hW : (rest.map fun v => v.category).sum ≤ 8) (hdg : decode cc pc = .ok (.invokespecial index, 3)) (hf : cells ≤ R.cells ∧ slots ≤ R.slots) (hstack : st0 = As.reverse ++ .ref b :: rest)
    (kk : ∀ (H1 : Heap) (locs1 : List Loc), RS G K' I' J' X' A' B' Q' H1 → va_S (gA G) H0 H1 locs1 → W p l e R s m args below meth c H1 locs1 cells slots Z (F0 m (pc + 3) ls rest)) : W p l e R s m args below meth c H locs cells slots Z (F0 m pc ls st0) :=
  g_run (va_runSU (hG.1.1 ci _ hc).2 S hM cw (g_preV hG hR hk hc) rfl hn hsize hstack (lv_room hW) hdg hf) hS kk
theorem n_mmax (hx : p.tables.exec = Jvm.exec) (hb : c.code = cc) (hml : c.maxLocals = ls.size) (hown : s.vm.findClass own = some m.cls) (hlink : (Cond.methodLink own index Lib.Math.max.name).before args s = true) (hstat : (Cond.static Lib.Math.max.name).before args s = true) (hini : (Cond.initialized "java/lang/Math").before args s = true) (hcode : (Cond.code Lib.Math.max.name Lib.Math.max.code 2 (some .int)).before args s = true)
    (hframes : 1 ≤ R.frames) (hlocals : (rest.map fun v => v.category).sum + 13 ≤ R.locals) (hc : cells ≤ R.cells) (hs : slots ≤ R.slots) {x y v : Int32} (hv : v = if x < y then y else x) (hdg : decode cc pc = .ok (.invokestatic index, 3))
    (kk : W p l e R s m args below meth c H locs cells slots Z (F0 m (pc + 3) ls (.int v :: rest))) : W p l e R s m args below meth c H locs cells slots Z (F0 m pc ls (.int y :: .int x :: rest)) := by
  subst hv
  exact va_mmax hx hb hml hown hlink hstat hini hcode hframes hlocals hc hs hdg kk
theorem n_mmin (hx : p.tables.exec = Jvm.exec) (hb : c.code = cc) (hml : c.maxLocals = ls.size) (hown : s.vm.findClass own = some m.cls) (hlink : (Cond.methodLink own index Lib.Math.min.name).before args s = true) (hstat : (Cond.static Lib.Math.min.name).before args s = true) (hini : (Cond.initialized "java/lang/Math").before args s = true) (hcode : (Cond.code Lib.Math.min.name Lib.Math.min.code 2 (some .int)).before args s = true)
    (hframes : 1 ≤ R.frames) (hlocals : (rest.map fun v => v.category).sum + 13 ≤ R.locals) (hc : cells ≤ R.cells) (hs : slots ≤ R.slots) {x y v : Int32} (hv : v = if y < x then y else x) (hdg : decode cc pc = .ok (.invokestatic index, 3))
    (kk : W p l e R s m args below meth c H locs cells slots Z (F0 m (pc + 3) ls (.int v :: rest))) : W p l e R s m args below meth c H locs cells slots Z (F0 m pc ls (.int y :: .int x :: rest)) := by
  subst hv
  exact va_mmin hx hb hml hown hlink hstat hini hcode hframes hlocals hc hs hdg kk
theorem n_mabs (hx : p.tables.exec = Jvm.exec) (hb : c.code = cc) (hml : c.maxLocals = ls.size) (hown : s.vm.findClass own = some m.cls) (hlink : (Cond.methodLink own index Lib.Math.abs.name).before args s = true) (hstat : (Cond.static Lib.Math.abs.name).before args s = true) (hini : (Cond.initialized "java/lang/Math").before args s = true) (hcode : (Cond.code Lib.Math.abs.name Lib.Math.abs.code 1 (some .int)).before args s = true)
    (hframes : 1 ≤ R.frames) (hlocals : (rest.map fun v => v.category).sum + 13 ≤ R.locals) (hc : cells ≤ R.cells) (hs : slots ≤ R.slots) {x v : Int32} (hv : v = if 0 ≤ x then x else 0 - x) (hdg : decode cc pc = .ok (.invokestatic index, 3))
    (kk : W p l e R s m args below meth c H locs cells slots Z (F0 m (pc + 3) ls (.int v :: rest))) : W p l e R s m args below meth c H locs cells slots Z (F0 m pc ls (.int x :: rest)) := by
  subst hv
  exact va_mabs hx hb hml hown hlink hstat hini hcode hframes hlocals hc hs hdg kk
theorem n_some {t : Option Nat} {r : Nat} (h : t = some r) (k : W p l e R s m args below meth c H locs cells slots Z (F0 m pc ls (.ref r :: rest))) : W p l e R s m args below meth c H locs cells slots Z (F0 m pc ls (va_rf t :: rest)) := by
  rw [h]
  exact k
theorem n_isnone {t : Option Nat} (h : t = none) (k : W p l e R s m args below meth c H locs cells slots Z (F0 m pc ls (.null :: rest))) : W p l e R s m args below meth c H locs cells slots Z (F0 m pc ls (va_rf t :: rest)) := by
  rw [h]
  exact k
/-- System.arraycopy of ints, booleans, bytes -/
theorem g_copy (hx : p.tables.exec = Jvm.exec) (hb : c.code = cc) (hml : c.maxLocals = ls.size) (hown : s.vm.findClass own = some m.cls) (hlink : (Cond.methodLink own index arraycopyName).before args s = true) (hnat : (Cond.native arraycopyName).before args s = true) (hstat : (Cond.static arraycopyName).before args s = true) (hini : (Cond.initialized "java/lang/System").before args s = true)
    (hG : GC G s) (hR : RS G K I J X A B Q H) (hS : va_S (gA G) H0 H locs) {a0 t n0 n1 : Nat} (hk0 : K a0 = some (.inr (t, n0))) (hk1 : K a = some (.inr (t, n1))) {ty : FieldType} (ht3 : t < 3) (ht : (gtys G.2.1)[t]? = some (G.2.1 t, ty)) (hprim : refKind ty = false)
    {sp dp n : Int32} (hok : cp_ok sp dp n n0 n1) (hfit : ∀ i, i < n.toNatClampNeg → fits ty (.int (A a0 (sp.toNatClampNeg + i))) = true)
    (hframes : 1 ≤ R.frames) (hlocals : (rest.map fun v => v.category).sum + (nativeFrameWords "java/lang/System" "arraycopy" 5 + 11) ≤ R.locals) (hdg : decode cc pc = .ok (.invokestatic index, 3))
    (kk : ∀ (H1 : Heap) (locs1 : List Loc), RS G K I J X (a_up A a (va_cpy (A a0) (A a) sp.toNatClampNeg dp.toNatClampNeg n.toNatClampNeg)) B Q H1 → va_S (gA G) H0 H1 locs1 → W p l e R s m args below meth c H1 locs1 cells slots Z (F0 m (pc + 3) ls rest)) : W p l e R s m args below meth c H locs cells slots Z (F0 m pc ls (.int n :: .int dp :: .ref a :: .int sp :: .ref a0 :: rest)) := by
  have gar : ∀ (A' : gI) (n a : Nat), garr A' B Q t n a = (n, .inl (A' a)) := by
    intro A' n a
    match t, ht3 with
    | 0, _ => rfl
    | 1, _ => rfl
    | 2, _ => rfl
    | t + 3, h => omega
  obtain ⟨h1, h2, h3, h4, h5⟩ := hok
  have nn : ∀ z : Int32, ¬ z < 0 → z.toInt = (z.toNatClampNeg : Int) := by
    intro z hz
    have hz0 : (0 : Int) ≤ z.toInt := by
      have := Int32.not_lt.mp hz
      simpa using Int32.le_iff_toInt_le.mp this
    show z.toInt = ((z.toInt.toNat : Nat) : Int)
    omega
  intro T hT Xs
  have hc0 : H[a0]? = some (vp_cell (G.2.1 t) (n0, .inl (A a0))) := by have h := hR.arr hk0; rw [gar] at h; exact h
  have hc1 : H[a]? = some (vp_cell (G.2.1 t) (n1, .inl (A a))) := by have h := hR.arr hk1; rw [gar] at h; exact h
  obtain ⟨-, k0, hk0', cm0, hkk0⟩ := (hG.1.2 t _ ht).1 n0 (fun j => .int (A a0 j))
  obtain ⟨-, k1, hk1', cm1, hkk1⟩ := (hG.1.2 t _ ht).1 n1 (fun j => .int (A a j))
  obtain ⟨vm', X', step⟩ := Xs.arraycopy hx hown hlink hnat hstat hini (src := a0) (dst := a) (cs := vp_cell (G.2.1 t) (n0, .inl (A a0))) (cd := vp_cell (G.2.1 t) (n1, .inl (A a))) (srcPos := sp) (destPos := dp) (n := n) (by rw [hT]; exact hc0) (by rw [hT]; exact hc1)
    (fun _ h => by cases h) (fun _ h => by cases h) (fun h => by cases h) (fun h => by cases h) hk0' hk1' hkk0 hkk1 (by simp [hprim]) h1 h2 h3
    (by rw [nn sp h1, nn n h3]; show ¬ _ > ((arrV (G.2.1 t) n0 (fun j => .int (A a0 j))).slots.size : Int); rw [arrV_size]; omega)
    (by rw [nn dp h2, nn n h3]; show ¬ _ > ((arrV (G.2.1 t) n1 (fun j => .int (A a j))).slots.size : Int); rw [arrV_size]; omega)
    (fun vm₁ _ i hi => by
      have e : (vp_cell (G.2.1 t) (n0, .inl (A a0))).slots.getD (sp.toNatClampNeg + i) .null = .int (A a0 (sp.toNatClampNeg + i)) := by
        show (arrV (G.2.1 t) n0 (fun j => .int (A a0 j))).slots.getD _ _ = _
        rw [Array.getD_eq_getD_getElem?, arrV_read _ _ (by omega)]
        rfl
      refine ⟨?_, ?_⟩
      · rw [e]
        exact hfit i hi
      · rw [e]
        exact trivial)
    (g := F0 m pc ls (.int n :: .int dp :: .ref a :: .int sp :: .ref a0 :: rest)) rfl (by rw [hml]) (rest := rest) rfl (by rw [hb]; exact hdg) hframes (by show 2 * 0 + _ + _ ≤ _; omega)
  have e1 : copied (vp_cell (G.2.1 t) (n0, .inl (A a0))) (vp_cell (G.2.1 t) (n1, .inl (A a))) sp dp n = vp_cell (G.2.1 t) (n1, .inl (va_cpy (A a0) (A a) sp.toNatClampNeg dp.toNatClampNeg n.toNatClampNeg)) := va_copied (fun z => .int z) (G.2.1 t) (G.2.1 t) (A a0) (A a) h4
  rw [e1] at X' step
  have hl : a < H.size := (Array.getElem?_eq_some_iff.mp hc1).1
  have hA : gA G a := hR.ge (by rw [hk1]; exact fun h => by cases h)
  have hheap : ((T.setVm vm').setCell a (vp_cell (G.2.1 t) (n1, .inl (va_cpy (A a0) (A a) sp.toNatClampNeg dp.toNatClampNeg n.toNatClampNeg)))).heap = H.setIfInBounds a (vp_cell (G.2.1 t) (n1, .inl (va_cpy (A a0) (A a) sp.toNatClampNeg dp.toNatClampNeg n.toNatClampNeg))) := by rw [← hT]; rfl
  have oq : ∀ q : Nat, q ≠ a → (H.setIfInBounds a (vp_cell (G.2.1 t) (n1, .inl (va_cpy (A a0) (A a) sp.toNatClampNeg dp.toNatClampNeg n.toNatClampNeg))))[q]? = H[q]? := fun q hq => by simp [Array.getElem?_setIfInBounds, Ne.symm hq]
  obtain ⟨t2, a1, b1⟩ := kk _ _ (g_put2 hR hk1 (by simp) oq (by rw [gar, a_up_self]; simp [Array.getElem?_setIfInBounds, hl]) (fun b hb => a_up_ne hb) (fun _ _ => rfl) (fun _ _ => rfl)) ⟨by simp; exact hS.1, fun q g1 g2 => by
      rw [oq q (fun e => g2 (by rw [e]; exact hA))]
      exact hS.2.1 q g1 g2, fun q hq => by
      rcases List.mem_append.mp hq with h | h
      · exact hS.2.2 q h
      · obtain ⟨z, -, hz⟩ := List.mem_map.mp h
        rw [← hz]
        exact hA⟩ _ hheap X'
  exact ⟨t2, step t2 a1, b1⟩
theorem n_copy (hx : p.tables.exec = Jvm.exec) (hb : c.code = cc) (hml : c.maxLocals = ls.size) (hown : s.vm.findClass own = some m.cls) (hlink : (Cond.methodLink own index arraycopyName).before args s = true) (hnat : (Cond.native arraycopyName).before args s = true) (hstat : (Cond.static arraycopyName).before args s = true) (hini : (Cond.initialized "java/lang/System").before args s = true)
    {la la' : List (Nat × (Nat → Int32))} (hG : GC G s) (hR : RS G K I J X (ova A la) B Q H) (hS : va_S (gA G) H0 H locs) {a0 t n0 n1 : Nat} {f g u : Nat → Int32} (hk0 : K a0 = some (.inr (t, n0))) (hk1 : K a = some (.inr (t, n1))) {ty : FieldType} (ht3 : t < 3) (ht : (gtys G.2.1)[t]? = some (G.2.1 t, ty)) (hprim : refKind ty = false)
    {sp dp n : Int32} (hok : cp_ok sp dp n n0 n1) (q0 q1 : Nat) (hN : nda (la.map (fun e => e.1))) (h0 : la[q0]? = some (a0, f)) (h1 : la[q1]? = some (a, g)) (hfit : ∀ i, i < n.toNatClampNeg → fits ty (.int (f (sp.toNatClampNeg + i))) = true) (hu : u = va_cpy f g sp.toNatClampNeg dp.toNatClampNeg n.toNatClampNeg) (h3 : la.set q1 (a, u) = la')
    (hframes : 1 ≤ R.frames) (hlocals : (rest.map fun v => v.category).sum + (nativeFrameWords "java/lang/System" "arraycopy" 5 + 11) ≤ R.locals) (hdg : decode cc pc = .ok (.invokestatic index, 3))
    (kk : ∀ (H1 : Heap) (locs1 : List Loc), RS G K I J X (ova A la') B Q H1 → va_S (gA G) H0 H1 locs1 → W p l e R s m args below meth c H1 locs1 cells slots Z (F0 m (pc + 3) ls rest)) : W p l e R s m args below meth c H locs cells slots Z (F0 m pc ls (.int n :: .int dp :: .ref a :: .int sp :: .ref a0 :: rest)) := by
  subst hu
  refine g_copy hx hb hml hown hlink hnat hstat hini hG hR hS hk0 hk1 ht3 ht hprim hok (fun i hi => by rw [ova_get q0 hN h0]; exact hfit i hi) hframes hlocals hdg fun H1 locs1 hR1 hS1 => kk H1 locs1 ?_ hS1
  rw [ova_get q0 hN h0, ova_get q1 hN h1, ova_set q1 hN h1 h3] at hR1
  exact hR1
theorem Sh.ov {a ci : Nat} {rows : List (Nat × Nat × Nat × Nat)} {lx : List (Nat × Nat × Option Nat)} (h : (rows.all fun q => ovn lx q.1) = true) (hs : Sh K X a ci rows) : Sh K (ov X lx) a ci rows := by
  refine ⟨hs.1, fun k q hk => ?_⟩
  obtain ⟨h1, h2⟩ := hs.2 k q hk
  refine ⟨h1, ?_⟩
  have h3 := List.all_eq_true.mp h q (List.mem_of_getElem? hk)
  rw [ov_no h3]
  exact h2
theorem n_aald (hx : p.tables.exec = Jvm.exec) (hb : c.code = cc) (hG : GC G s) (hR : RS G K I J X A B Q H) {t : Nat} {i : Int32} {x : Nat → Option Nat} {v : Option Nat} (hk : K a = some (.inr (t + 4, n))) (ht : t < 6) (hin : vp_in i n) (hQ : Q a = x) (hv : v = x i.toNatClampNeg) (hdg : decode cc pc = .ok (.aaload, 1))
    (kk : W p l e R s m args below meth c H locs cells slots Z (F0 m (pc + 1) ls (va_rf v :: rest))) : W p l e R s m args below meth c H locs cells slots Z (F0 m pc ls (.int i :: .ref a :: rest)) := by
  subst hQ
  subst hv
  exact g_aald hx hb hG hR hk ht hin hdg kk
/-- a write into a row of the grid -/
theorem n_gast (hx : p.tables.exec = Jvm.exec) (hb : c.code = cc) (hG : GC G s) {la : List (Nat × (Nat → Int32))} {gb gn : Nat} {g g' : Nat → Nat → Int32} (hR : RS G K I J X (ova (ovg A gb gn g) la) B Q H) (hS : va_S (gA G) H0 H locs) {i : Int32} {j : Nat} {v : Int32} (hk : K (gb + j) = some (.inr (0, n))) (hj : j < gn) (hin : vp_in i n) (hno : gb + j ∉ la.map (fun e => e.1)) (hg : g' = a_up g j (upd (g j) i.toNatClampNeg v)) (hdg : decode cc pc = .ok (.iastore, 1))
    (kk : ∀ (H1 : Heap) (locs1 : List Loc), RS G K I J X (ova (ovg A gb gn g') la) B Q H1 → va_S (gA G) H0 H1 locs1 → W p l e R s m args below meth c H1 locs1 cells slots Z (F0 m (pc + 1) ls rest)) : W p l e R s m args below meth c H locs cells slots Z (F0 m pc ls (.int v :: .int i :: .ref (gb + j) :: rest)) := by
  subst hg
  refine g_iast hx hb hG hR hS hk hin hdg fun H1 locs1 hR1 hS1 => kk H1 locs1 ?_ hS1
  rw [ova_no hno, ovg_get hj, ova_up_out hno, ovg_up hj] at hR1
  exact hR1
end GX0
