/-! PURE LEVEL 61: note, strike, whole -/
section P18
variable {h g : HP} {I J : Nat → Nat → Int32} {L M : Nat → Nat → Int64}
theorem P_strike (q : Inv h I J M) (x : Int32) : PB h g (cA_strike x (hw h I L)) (m_strike x (hw g J M)) := by
  have q0 := q.fr (frA.rfl I) (frB.u0 J (k := 2) 0 (by omega)) (frL2.rfl _ M)
  simp only [cA_strike, m_strike, bnd_e, cal_s, onr_s, jon_e, gI_hw, gL_hw, gT_hw, gR_hw, gN_hw, sI_hw, sL_hw, cV_hw, shS_hw, shC_hw, shL_hw, ← bt_def]
  generalize u2 J 0 2 0 = J1 at q0 ⊢
  obtain ⟨c, K, A, w, S, al, nu, D, N, sn, kv, kn, U, im, X, tp, tb, p⟩ := q0.p
  obtain ⟨n1, n2, n3, n4, n5, n6⟩ := p.2.1
  have hs := n3.1
  have sh : Shp h := p.2.2.2.2.2.2
  have sz := ec_size (I := I) (L := L) (sh41 h)
  rw [n1.1] at sz
  have out0 : ∀ r, PB h g (some (r, hw h I L)) (some (r, hw g J1 M)) := fun r => ⟨r, h, I, L, J1, M, rfl, rfl, q0, by omega, by omega⟩
  simp only [sz, n2.1, bnd_e, cal_s, onr_s, jon_e, gI_hw, gL_hw, gT_hw, gR_hw, gN_hw, sI_hw, sL_hw, cV_hw, shS_hw, shC_hw, shL_hw, ← bt_def, show (0 : Int64) = (0 : Int32).toInt64 from rfl, ec_in, bI_eq0]
  by_cases zx : ∃ k, k < sn ∧ x = nn k
  · obtain ⟨k, hk, rfl⟩ := zx
    have d : decide (¬ nn k < 0 ∧ ¬ nn sn - 1 < nn k) = true := by
      rw [show nn sn - 1 = nn (sn - 1) from nn_sub (a := sn) (b := 1) (by omega)]
      exact decide_eq_true ⟨nn_nonneg (by omega), fun e => by have := (nn_lt (by omega) (by omega)).mp e; omega⟩
    rw [d]
    simp only [eq_self, Bool.true_eq_false, if_true, if_false]
    by_cases z24 : sn = 24
    · subst z24
      rw [if_pos (show (24 : Int32) ≤ nn 24 by decide), if_pos (show nn 24 = (24 : Int32) from rfl)]
      exact out0 _
    · have h24 : sn < 24 := by omega
      rw [if_neg (show ¬ (24 : Int32) ≤ nn sn from nn_nle (n := 24) h24 (by omega)), if_neg (show ¬ nn sn = (24 : Int32) by rw [show (24 : Int32) = nn 24 from rfl, nn_eq (by omega) (by omega)]; exact z24), if_neg (nn_nonneg (by omega)), if_pos ((nn_lt (by omega) (by omega)).mpr hk), grd_pos sh.1]
      have h54 := sh.1
      obtain ⟨H, hH, F, tH, fI, nN, nS, sH⟩ := nw_f I L 15 1 sh
      have k22 := ec_n22 (h := H) (I := gI H) (L := gL H) (b := gN h) (by rw [tH]) (nn k)
      rw [← hw_eta] at k22
      have i41 : u2 (gI H) (gN h) 0 (nn k) 41 2 = nn sn := by rw [u2_ne (by omega), fI 41 (by omega)]; exact n1.1
      have ad := ec_add (h := H) (I := u2 (gI H) (gN h) 0 (nn k)) (L := gL H) (b := gN h) h24 i41 (Or.inr (by rw [tH]))
      have em := em_noted (g := g) (M := M) h24 n2.1 (-1) (nn k) 0 0
      simp only [hH, k22, ad, em, bnd_e, cal_s, onr_s, jon_e, gI_hw, gL_hw, gT_hw, gR_hw, gN_hw, sI_hw, sL_hw, cV_hw, shS_hw, shC_hw, shL_hw, ← bt_def]
      obtain ⟨c1, c2, c3⟩ := s42_f H sn (some (gN h))
      refine ⟨nn sn, sR H 42 sn (some (gN h)), _, gL H, _, M, rfl, rfl, (p.add (h' := sR H 42 sn (some (gN h))) (v := fun i => if i = 0 then -1 else if i = 1 then nn k else 0) h24 (fun x hx => by rw [c1]; exact (F x hx).1) (fun x hx h2 => by rw [c2 x h2]; exact (F x hx).2) (fun j => by rw [c3, (F 42 (by omega)).2]) (show Shp (sR H 42 sn (some (gN h))) from sH) (fun x h1 h2 => by rw [u2_ne h1, u2_ne h1, u2_ne h2, fI x h2]) (u2_same _ _ _ _) (fun x h0 h1 => ?_) (fun j hj => ?_) ?_ (fun j hj => ?_) ?_ (Or.inr ⟨rfl, ?_, ?_⟩) (Or.inr ⟨rfl, k, hk, rfl⟩)).inv, ?_, ?_⟩
      · unfold ntJ; rw [u2_ne h0, u2_ne h1, u2_ne h1, u2_ne h1, u2_ne h1]
      · unfold ntJ; rw [u2_nk _ _ hj, u2_ne (by decide), u2_ne (by decide), u2_ne (by decide), u2_ne (by decide)]
      · exact u2_same _ _ _ _
      · unfold ntJ; rw [u2_ne (by decide), u2_nk _ _ (by omega), u2_nk _ _ (by omega), u2_nk _ _ (by omega), u2_nk _ _ (by omega)]
      · unfold ntJ
        rw [u2_ne (by decide)]
        refine ⟨?_, ?_, ?_, ?_⟩
        · rw [u2_nk _ _ (by omega), u2_nk _ _ (by omega), u2_nk _ _ (by omega), u2_same]; rfl
        · rw [u2_nk _ _ (by omega), u2_nk _ _ (by omega), u2_same]; rfl
        · rw [u2_nk _ _ (by omega), u2_same]; rfl
        · rw [u2_same]; rfl
      · rw [c1, tH]
      · rw [u2_ne (by omega), u2_ne (by omega), u2_same]; rfl
      · show gN H ≤ _; omega
      · show gS H ≤ _; omega
  · have lt : ∀ (h0 : ¬ x < 0), ¬ x < nn sn := fun h0 e => zx (nn_of (by omega) h0 e)
    have d : decide (¬ x < 0 ∧ ¬ nn sn - 1 < x) = false := by
      refine decide_eq_false (fun e => ?_)
      obtain ⟨e1, e2⟩ := e
      cases sn with
      | zero =>
        apply e2
        rw [show nn 0 - 1 = (-1 : Int32) from rfl]
        exact Int32.lt_of_lt_of_le (show (-1 : Int32) < 0 by decide) (Int32.not_lt.mp e1)
      | succ m =>
        rw [show nn (m + 1) - 1 = nn m from nn_sub (a := m + 1) (b := 1) (by omega)] at e2
        exact lt e1 (Int32.lt_of_le_of_lt (Int32.not_lt.mp e2) ((nn_lt (by omega) (by omega)).mpr (by omega)))
    rw [d]
    simp only [eq_self, Bool.true_eq_false, if_true, if_false]
    by_cases z24 : nn sn = (24 : Int32)
    · rw [if_pos z24]; exact out0 _
    · rw [if_neg z24]
      by_cases h0 : x < 0
      · rw [if_pos h0]; exact out0 _
      · rw [if_neg h0, if_neg (lt h0)]; exact out0 _
end P18
