/-! the plain law: reading a number, a sign; the readers' parts -/
set_option maxRecDepth 100000
theorem must_0 (k fk pl a : Int32) : f6_mustY 0 k fk pl a = some (none, k, a) := rfl
theorem must_1 (k fk pl a : Int32) : f6_mustY 1 k fk pl a = some (some (), fk, pl) := rfl
theorem trN {α β : Type} (t : Option β) (k : α → Option β) : tr none t k = t := rfl
theorem trS {α β : Type} (a : α) (t : Option β) (k : α → Option β) : tr (some a) t k = k a := rfl
theorem bad_is (k f kd flt att : Int32) (h : ¬ kd = 1) : f14_bad k f kd flt att = some (0, k, f) := by
  unfold f14_bad f14_bad_j14
  rw [if_neg h]
theorem bad_1 (f kd flt att : Int32) : f14_bad 1 f kd flt att = some (0, 1, f) := by
  unfold f14_bad f14_bad_j14
  by_cases h : kd = 1
  · rw [if_pos h]
  · rw [if_neg h]
/-- the token in hand, both sides: (p, at, token, value, many, name) and (to, from, kind, number, sign, word) -/
def TR (n : Nat) (b : Nat → Nat) (x y : Int32 × Int32 × Int32 × Int32 × Int32 × Int64) : Prop := TokR n b x.1 x.2.1 x.2.2.1 x.2.2.2.1 x.2.2.2.2.1 x.2.2.2.2.2 y.1 y.2.1 y.2.2.1 y.2.2.2.1 y.2.2.2.2.1 y.2.2.2.2.2
theorem TokR.atfrom {n : Nat} {b : Nat → Nat} {p at0 tk val mny to frm kd num sg : Int32} {nm wd : Int64} (h : TokR n b p at0 tk val mny nm to frm kd num sg wd) : at0 = frm := by
  obtain ⟨P, a, -, -, -, -, rfl, rfl, -⟩ := h
  rfl
theorem TokR.num {n : Nat} {b : Nat → Nat} {p at0 tk val mny to frm kd num sg : Int32} {nm wd : Int64} (h : TokR n b p at0 tk val mny nm to frm kd num sg wd) : (tk = 2 ∧ kd = 3 ∧ ∃ v : Nat, v ≤ 99999999 ∧ val = nI v ∧ num = nI v) ∨ (¬ tk = 2 ∧ ¬ kd = 3) := by
  obtain ⟨P, a, -, -, -, -, -, -, h⟩ := h
  rcases h with ⟨rfl, rfl⟩ | ⟨rfl, rfl⟩ | ⟨rfl, rfl, -⟩ | ⟨j, -, -, -, ⟨rfl, rfl, -⟩ | ⟨rfl, rfl, -, -, hv⟩⟩
  · exact Or.inr ⟨by decide, by decide⟩
  · exact Or.inr ⟨by decide, by decide⟩
  · exact Or.inr ⟨by decide, by decide⟩
  · exact Or.inr ⟨by decide, by decide⟩
  · exact Or.inl ⟨rfl, rfl, hv⟩
theorem TokR.sgn {n : Nat} {b : Nat → Nat} {p at0 tk val mny to frm kd num sg : Int32} {nm wd : Int64} (h : TokR n b p at0 tk val mny nm to frm kd num sg wd) (c : Int32) : (f6_is_2Y c tk val = some 1 ∧ f14_isSign c kd sg = some 1 ∧ tk = 3 ∧ kd = 4 ∧ val = c ∧ sg = c) ∨ (f6_is_2Y c tk val = some 0 ∧ f14_isSign c kd sg = some 0) := by
  obtain ⟨P, a, -, -, -, -, -, -, h⟩ := h
  unfold f6_is_2Y f14_isSign f6_is_2Y_j20 f14_isSign_j20
  rcases h with ⟨rfl, rfl⟩ | ⟨rfl, rfl⟩ | ⟨rfl, rfl, rfl⟩ | ⟨j, -, -, -, ⟨rfl, rfl, -⟩ | ⟨rfl, rfl, -, -, hv⟩⟩
  · rw [if_neg (by decide), if_neg (by decide)]
    exact Or.inr ⟨rfl, rfl⟩
  · rw [if_neg (by decide), if_neg (by decide)]
    exact Or.inr ⟨rfl, rfl⟩
  · rw [if_pos rfl, if_pos rfl]
    by_cases q : val = c
    · rw [if_pos q]
      exact Or.inl ⟨rfl, rfl, rfl, rfl, q, q⟩
    · rw [if_neg q]
      exact Or.inr ⟨rfl, rfl⟩
  · rw [if_neg (by decide), if_neg (by decide)]
    exact Or.inr ⟨rfl, rfl⟩
  · rw [if_neg (by decide), if_neg (by decide)]
    exact Or.inr ⟨rfl, rfl⟩
theorem TokR.Ple {n : Nat} {b : Nat → Nat} {p at0 tk val mny to frm kd num sg : Int32} {nm wd : Int64} (h : TokR n b p at0 tk val mny nm to frm kd num sg wd) : ∃ P, P ≤ n ∧ p = nI P ∧ to = nI P := by
  obtain ⟨P, a, h1, -, h2, h3, -⟩ := h
  exact ⟨P, h1, h2, h3⟩
theorem TokR.next {n mo : Nat} {b : Nat → Nat} {t1 t14 : Nat → Int32} {p at0 tk val mny to frm kd num sg : Int32} {nm wd : Int64} (h : TokR n b p at0 tk val mny nm to frm kd num sg wd) (hT : TP b t1 t14) (hn : n ≤ 740) (hmo : mo ≤ 740) : Ok (f6_nextY (nI n) (nI mo) p at0 tk val mny nm t1) (fun x => Ok (f14_go (nI n) (nI mo) to frm kd num sg wd t14) (fun y => TR n b x y)) := by
  obtain ⟨P, hP, rfl, rfl⟩ := h.Ple
  exact next_ok hT hn hmo hP at0 frm tk val mny kd num sg nm wd
/-- a number within bounds -/
theorem number_ok {n mo : Nat} {b : Nat → Nat} {t1 t14 : Nat → Int32} {p at0 tk val mny to frm kd num sg : Int32} {nm wd : Int64} (h : TokR n b p at0 tk val mny nm to frm kd num sg wd) (hT : TP b t1 t14) (hn : n ≤ 740) (hmo : mo ≤ 740) (lo hi fk pl flt att told : Int32) :
    Ok (f6_numberY lo hi (nI n) fk pl (nI mo) p at0 tk val mny nm t1) (fun x => Ok (f14_readNumber lo hi (nI n) (nI mo) to frm kd num sg flt att told wd t14) (fun y =>
      (x.1 = none ∧ y.1 = 0 ∧ x.2.1 = y.2.2.2.2.2.2.1 ∧ x.2.2.1 = y.2.2.2.2.2.2.2.1) ∨
      ∃ (v : Nat) (x' y' : Int32 × Int32 × Int32 × Int32 × Int32 × Int64), v ≤ 99999999 ∧ ¬ nI v < lo ∧ ¬ hi < nI v ∧ x = (some (nI v), fk, pl, x') ∧ y = (1, y'.1, y'.2.1, y'.2.2.1, y'.2.2.2.1, y'.2.2.2.2.1, flt, att, nI v, y'.2.2.2.2.2) ∧ TR n b x' y')) := by
  have e := h.atfrom
  subst e
  unfold f6_numberY f14_readNumber f6_numberY_j14
  rcases h.num with ⟨rfl, rfl, v, hv, rfl, rfl⟩ | ⟨h1, h2⟩
  · rw [if_pos rfl, if_pos rfl, must_1, bind_is, trS, isIn1, isIn14, bind_is, bind_is]
    by_cases q1 : nI v < lo
    · rw [if_pos q1, if_pos rfl, must_0, bind_is, trN, bad_is _ _ _ _ _ (by decide), bind_is, gd_t (show (0 : Int32) &&& 1 = 0 by decide)]
      exact ok_i (ok_i (Or.inl ⟨rfl, rfl, rfl, rfl⟩))
    · rw [if_neg q1]
      by_cases q2 : hi < nI v
      · rw [if_pos q2, if_pos rfl, must_0, bind_is, trN, bad_is _ _ _ _ _ (by decide), bind_is, gd_t (show (0 : Int32) &&& 1 = 0 by decide)]
        exact ok_i (ok_i (Or.inl ⟨rfl, rfl, rfl, rfl⟩))
      · rw [if_neg q2, if_neg (show ¬ (1 : Int32) = 0 by decide), must_1, bind_is, trS]
        refine ok_b2 (h.next hT hn hmo) ?_
        intro x y hxy
        exact ok_i (ok_i (Or.inr ⟨v, x, y, hv, q1, q2, rfl, rfl, hxy⟩))
  · rw [if_neg h1, if_neg h2, must_0, bind_is, trN, bad_1, bind_is, gd_t (show (0 : Int32) &&& 1 = 0 by decide)]
    exact ok_i (ok_i (Or.inl ⟨rfl, rfl, rfl, rfl⟩))
/-- the sign ';' at a line's end -/
theorem sign_ok {n mo : Nat} {b : Nat → Nat} {t1 t14 : Nat → Int32} {p at0 tk val mny to frm kd num sg : Int32} {nm wd : Int64} (h : TokR n b p at0 tk val mny nm to frm kd num sg wd) (hT : TP b t1 t14) (hn : n ≤ 740) (hmo : mo ≤ 740) (fk pl flt att : Int32) :
    Ok (f6_signY 59 (nI n) fk pl (nI mo) p at0 tk val mny nm t1) (fun x => Ok (f14_readEnd (nI n) (nI mo) to frm kd num sg flt att wd t14) (fun y =>
      (x.1 = none ∧ y.1 = 0 ∧ x.2.1 = y.2.2.2.2.2.2.1 ∧ x.2.2.1 = y.2.2.2.2.2.2.2.1) ∨
      ∃ (x' y' : Int32 × Int32 × Int32 × Int32 × Int32 × Int64), x = (some (), fk, pl, x') ∧ y = (1, y'.1, y'.2.1, y'.2.2.1, y'.2.2.2.1, y'.2.2.2.2.1, flt, att, y'.2.2.2.2.2) ∧ TR n b x' y')) := by
  have e := h.atfrom
  subst e
  unfold f6_signY f14_readEnd
  rcases h.sgn 59 with ⟨e1, e2, -⟩ | ⟨e1, e2⟩
  · rw [e1, e2, bind_is, bind_is, must_1, bind_is, trS, if_neg (show ¬ (1 : Int32) = 0 by decide)]
    refine ok_b2 (h.next hT hn hmo) ?_
    intro x y hxy
    exact ok_i (ok_i (Or.inr ⟨x, y, rfl, rfl, hxy⟩))
  · rw [e1, e2, bind_is, bind_is, must_0, bind_is, trN, if_pos rfl, bad_1, bind_is, gd_t (show (0 : Int32) &&& 1 = 0 by decide)]
    exact ok_i (ok_i (Or.inl ⟨rfl, rfl, rfl, rfl⟩))
/-! the three readers are alike -/
theorem nextP_Y : @f6_nextP = @f6_nextY := rfl
theorem nextS_Y : @f6_nextS = @f6_nextY := rfl
theorem isP_Y : @f6_isP = @f6_isY := rfl
theorem isS_Y : @f6_isS = @f6_isY := rfl
theorem findP_Y : @f6_findP = @f6_findY := rfl
theorem findS_Y : @f6_findS = @f6_findY := rfl
theorem numberP_Y : @f6_numberP = @f6_numberY := rfl
theorem signP_Y : @f6_signP = @f6_signY := rfl
theorem signS_Y : @f6_signS = @f6_signY := rfl
theorem mustP_Y : @f6_mustP = @f6_mustY := rfl
theorem mustS_Y : @f6_mustS = @f6_mustY := rfl
theorem is2P_Y : @f6_is_2P = @f6_is_2Y := rfl
theorem is2S_Y : @f6_is_2S = @f6_is_2Y := rfl
theorem isNameP_Y : @f6_isNameP = @f6_isNameY := rfl
theorem manP_Y : @f6_manP = @f6_manY := rfl
theorem beginY_Y : @f6_beginY = fun n m p a t v y nm tp => (f6_nextY n m 0 a t v y nm tp).bind fun r => some (r.1, r.2.1, r.2.2.1, r.2.2.2.1, r.2.2.2.2.1, r.2.2.2.2.2) := rfl
