/-! the plain law: aims, joined -/
set_option maxRecDepth 100000
theorem aims_eq {M C R P : Nat} {g fuel burns : Nat → Int32} {men : Nat → Option Nat} {IM : Nat → Nat → Int32} {w : Nat → Int32} {bg : Int32} (hbg : bg = 0 ∨ bg = 1) (hY : YV M C R P g fuel burns men IM (layF bg w)) (p1 p2 : Int32) (y : Nat) (ll l85 l92 l97 l102 l107 : Int32) (y85 y92 y97 y102 y107 : Option Nat) (f85 w85 h85 b85 f92 w92 b92 f97 w97 h97 b97 f102 w102 h102 b102 f107 w107 h107 b107 aims : Nat → Int32) (th l14 al am : Int32) (f' b' v' h' st row best14 : Nat → Int32) {am1 am14 : Int32} {best told : Nat → Int32} (hk : pKept 3 am1 am14 best told) :
    Ok (f1_aims p1 p2 y am1 ll (g 304) (g 305) (g 314) l85 l92 l97 l102 l107 y85 y92 y97 y102 y107 f85 w85 h85 b85 f92 w92 b92 f97 w97 h97 b97 f102 w102 h102 b102 f107 w107 h107 b107 aims best fuel burns) (fun x => Ok (f14_aims p1 p2 th bg l14 al am am14 w f' b' v' h' st row best14 told) (fun z => x.1 = z.1 ∧ z.2.1 = 0 ∧ z.2.2.1 = 1 ∧ z.2.2.2.2.2.2.2.1 = layF bg w ∧ pKept 3 x.2.1 z.2.2.2.2.2.2.1 x.2.2.2.2.2.2.2.2.2.2.2.2.2.2.2.2.2.2.2.2.2.2.2.2.2.2.2.2.2.2.2.2.2 z.2.2.2.2.2.2.2.2.2.2.2.2.2.2.2)) := by
  have hY0 := hY
  obtain ⟨⟨-, hC, hR, hCR0, -⟩, ⟨-, -, g4, w9, g5, w10, -⟩, -, ⟨g14, -⟩, -⟩ := hY0
  unfold f1_aims f14_aims
  rw [lay_ok hbg, bind_is, g4, g5, g14]
  dsimp only
  rcases isIn_cc p1 (a := 1) (b := 3) (A := 1) (B := 3) rfl rfl (by decide) (by decide) with ⟨e, e', -⟩ | ⟨e, e', D, hD1, hD, rfl⟩
  · rw [e, e', bind_is, bind_is, if_pos rfl, if_pos rfl]
    exact ok_i (ok_i ⟨rfl, rfl, rfl, rfl, hk⟩)
  · rw [e, e', bind_is, bind_is, if_neg (show ¬ (1 : Int32) = 0 by decide), if_neg (show ¬ (1 : Int32) = 0 by decide)]
    rcases litres_cc p2 with ⟨e, e'⟩ | ⟨e, e', t, ht, rfl⟩
    · rw [e, e', bind_is, bind_is, if_pos rfl, if_pos rfl]
      exact ok_i (ok_i ⟨rfl, rfl, rfl, rfl, hk⟩)
    · rw [e, e', bind_is, bind_is, if_neg (show ¬ (1 : Int32) = 0 by decide), if_neg (show ¬ (1 : Int32) = 0 by decide), cells_is w9 w10, bind_is]
      have hCR : C * R ≤ 8 * 8 := Nat.mul_le_mul hC hR
      by_cases hR0 : R = 0
      · have : C = 0 := hCR0.mpr hR0
        subst hR0 this
        rw [if_pos (show nI 0 = 0 from rfl), if_pos (show nI (0 * 0) = 0 from rfl)]
        exact ok_i (ok_i ⟨rfl, rfl, rfl, rfl, hk⟩)
      · have hC0 : ¬ C = 0 := fun h => hR0 (hCR0.mp h)
        have hp : 0 < C * R := Nat.mul_pos (by omega) (by omega)
        rw [if_neg (nI_ne0 (show 0 < R by omega) (by omega)), if_neg (nI_ne0 hp (by omega))]
        obtain ⟨u, eu, z, ez, c0, c1, F, B, hg⟩ := light_eq hY l92 l14 f92 w92 b92 f' v' b'
        rw [eu, bind_is, ez, bind_is, c0, c1]
        unfold f14_tryAims
        refine ok_b2 (aim_tries_0 (D := D) (t := t) (Z := 0) (l := 0) (lb1 := 1000000000) (lb14 := -1) (h14 := h') (st := st) (row := row) (best14 := best14) hD (Nat.zero_le _) w9 w10 rfl hC hR ht (Nat.zero_le _) (Nat.zero_le _) l85 (nI 0) l97 l102 l107 y y85 y97 y102 y107 f85 w85 h85 b85 u.2.1 u.2.2.1 u.2.2.2 f97 w97 h97 b97 f102 w102 h102 b102 f107 w107 h107 b107 aims best hg rfl (fun j hj => absurd hj (Nat.not_lt_zero _)) (Or.inl ⟨rfl, rfl⟩)) ?_
        rintro x q ⟨hA, -, -, hF⟩
        rcases hA with ⟨-, hz⟩ | ⟨v, hv, e1, e2, hrow⟩
        · exact absurd hz hF
        · have z7 : Ok (whl (fun (s10 : Int32 × (Nat → Int32)) => f14_aims_s10 (nI D) q s10.1 s10.2) FU ((0 : Int32), told)) (fun z => ∀ k, k < D → z k = q.2.2.2.2.2.2.2.2 k) := by
            refine for_ok (fun i (x : Nat → Int32) => (nI i, x)) (fun i x => ∀ k, k < i → x k = q.2.2.2.2.2.2.2.2 k) D (by omega) (fun k h => absurd h (Nat.not_lt_zero _)) ?_ ?_
            · intro i x hi hI
              have hic : (nI i).toNatClampNeg = i := nI_clamp (by omega)
              dsimp only
              unfold f14_aims_s10
              rw [if_neg (nI_ge hi (by omega))]
              simp only [gd_t (inb_nI (show i < 3 by omega) (by decide)), lt_is, hic, nI_1]
              refine ok_i ⟨_, rfl, fun k hk => ?_⟩
              by_cases e : k = i
              · subst e; rw [pk_us]
              · rw [pk_un e]; exact hI k (by omega)
            · intro x hI
              dsimp only
              unfold f14_aims_s10
              rw [if_pos (nI_le (Nat.le_refl _) (by omega))]
              exact ok_i ⟨_, rfl, hI⟩
          obtain ⟨zz, ez', hz7⟩ := z7
          rw [ez', bind_is]
          unfold f14_aims_e10_0
          refine ok_i (ok_i ⟨e1.trans e2.symm, rfl, rfl, rfl, D, hD, rfl, rfl, fun i hi => ?_⟩)
          dsimp only
          rw [hz7 i hi, hrow i hi]
