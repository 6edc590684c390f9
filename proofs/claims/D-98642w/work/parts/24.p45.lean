/-! PURE LEVEL 45: back, undo -/
section P4
variable {h g : HP} {I J : Nat → Nat → Int32} {L M : Nat → Nat → Int64}
theorem P_back (q : Inv h I J M) : PB h g (cA_back (hw h I L)) (m_back (hw g J M)) := by
  have q0 := q
  obtain ⟨c, K, A, w, S, al, nu, D, N, sn, kv, kn, U, im, X, tp, tb, ⟨q1, q2, q3, q4, q5, q6⟩, n, ⟨⟨k1, k2, k3, k4, k5⟩, k6, k7⟩, ⟨i1, i2, i3⟩, t, u, sh⟩ := q
  have hP := q1.1.1.p5
  have i2' : u2 J 0 2 0 0 78 = bI im := by rw [u2_nk _ _ (by decide)]; exact i2
  cases im with
  | false =>
    refine ⟨-1, h, I, L, u2 J 0 2 0, M, ?_, ?_, q0.fr (frA.rfl I) (frB.u0 J (k := 2) 0 (by omega)) (frL2.rfl _ M), by omega, by omega⟩
    · simp only [cA_back, bnd_e, cal_s, onr_s, jon_e, gI_hw, gL_hw, gT_hw, gR_hw, gN_hw, sI_hw, sL_hw, cV_hw, shS_hw, shC_hw, shL_hw, ← bt_def, i1, bI_eq0, if_true]
    · simp only [m_back, bnd_e, cal_s, onr_s, jon_e, gI_hw, gL_hw, gT_hw, gR_hw, gN_hw, sI_hw, sL_hw, cV_hw, shS_hw, shC_hw, shL_hw, ← bt_def, i2', bI_eq0, if_true]
  | true =>
    obtain ⟨⟨w', y1, y5, y6⟩, y2, y3, y4⟩ := i3 rfl
    obtain ⟨I1, e1, s1, f1, v5, v6⟩ := ec_becomeS (L := L) hP (sh20 h) (sh30 h) (by decide) y1
    have y2' : StMx (u2 J 0 2 0) 41 0 (zP K) X := by unfold StMx; rw [u2_ne (by decide)]; exact y2
    obtain ⟨J1, e2, s2, s60, f2, f0⟩ := em_take (g := g) (M := M) (a := 41) (i := 0) rfl (by decide) (by decide) (by decide) hP y2'
    rw [nn0] at e2
    have fk : frY I (u2 I1 0 4 0) := ⟨fun x h0 h1 => by rw [u2_ne h0]; exact f1 x (by omega), fun k h1 h2 => by rw [u2_nk _ _ h1, f1 0 (by omega)]⟩
    have fn : frN J (u2 J1 0 75 0) := ⟨fun x h0 h1 => by rw [u2_ne h0, f2 x h0 (by omega), u2_ne h0], fun k h1 h2 h3 h4 => by rw [u2_nk _ _ h3, f0 k h2, u2_nk _ _ h1]⟩
    have n0 : ¬ bI true = 0 := by decide
    refine ⟨sd X.1, h, u2 I1 0 4 0, L, u2 J1 0 75 0, u2 M 0 61 (M 0 80), ?_, ?_, ⟨c, K, A, w', X.1, X.2.1, X.2.2, D, N, sn, kv, 0, U, true, X, tp, tb, ⟨⟨⟨q1.1.1.frY fk, ?_⟩, ⟨q1.2.1.1.frN fn, s2.u0⟩, y4.1⟩, ?_, ?_, ?_, ?_, y4.2⟩, n.frY fk fn, ⟨⟨u2_same _ _ _ _, by omega, fun i hi => by omega, k4, k5⟩, u2_same _ _ _ _, fun i hi => by omega⟩, ⟨?_, ?_, fun _ => ⟨⟨w', ?_, ?_, ?_⟩, ?_, ?_, y4⟩⟩, t.frY fk fn, flt_frY fk fn u, sh⟩, by omega, by omega⟩
    · simp only [cA_back, bnd_e, cal_s, onr_s, jon_e, gI_hw, gL_hw, gT_hw, gR_hw, gN_hw, sI_hw, sL_hw, cV_hw, shS_hw, shC_hw, shL_hw, ← bt_def, i1, if_neg n0, e1, u2_ne (show 20 ≠ 0 by decide), s1.2.1]
    · simp only [m_back, bnd_e, cal_s, onr_s, jon_e, gI_hw, gL_hw, gT_hw, gR_hw, gN_hw, sI_hw, sL_hw, cV_hw, shS_hw, shC_hw, shL_hw, ← bt_def, i2', if_neg n0, e2, grd_pos (show inb (0 : Int32) 2 by decide), tn0, u2_ne (show 33 ≠ 0 by decide), s2.2]
    · exact s1.cgo (fun x h1 h2 => u2_ne (by omega))
    · rw [u2_ne (by decide), v5]; exact y5
    · rw [u2_nk _ _ (by decide)]; exact s60
    · rw [u2_ne (by decide), v6]; exact y6
    · rw [u2_same]; exact y3
    · rw [u2_nk _ _ (by decide), f1 0 (by omega)]; exact i1
    · rw [u2_nk _ _ (by decide), f0 78 (by decide)]; exact i2'
    · exact y1.cgo (fun x h1 h2 => by rw [u2_ne (by omega)]; exact f1 x (by omega))
    · rw [u2_ne (by decide), f1 30 (by omega)]; exact y5
    · rw [u2_ne (by decide), f1 30 (by omega)]; exact y6
    · unfold StMx; rw [u2_ne (by decide), f2 41 (by decide) (by omega)]; exact y2'
    · rw [u2_nk _ _ (by decide)]; exact y3
theorem P_undo (q : Inv h I J M) : PB h g (cA_undo (hw h I L)) (m_undo (hw g J M)) := by
  have q0 := q
  obtain ⟨c, K, A, w, S, al, nu, D, N, sn, kv, kn, U, im, X, tp, tb, ⟨q1, q2, q3, q4, q5, q6⟩, n, ⟨⟨k1, k2, k3, k4, k5⟩, k6, k7⟩, ⟨i1, i2, i3⟩, t, u, sh⟩ := q
  have hP := q1.1.1.p5
  have k6' : u2 J 0 2 0 0 75 = nn kn := by rw [u2_nk _ _ (by decide)]; exact k6
  cases kn with
  | zero =>
    refine ⟨-1, h, I, L, u2 J 0 2 0, M, ?_, ?_, q0.fr (frA.rfl I) (frB.u0 J (k := 2) 0 (by omega)) (frL2.rfl _ M), by omega, by omega⟩
    · simp only [cA_undo, bnd_e, cal_s, onr_s, jon_e, gI_hw, gL_hw, gT_hw, gR_hw, gN_hw, sI_hw, sL_hw, cV_hw, shS_hw, shC_hw, shL_hw, ← bt_def, k1, if_pos nn0]
    · simp only [m_undo, bnd_e, cal_s, onr_s, jon_e, gI_hw, gL_hw, gT_hw, gR_hw, gN_hw, sI_hw, sL_hw, cV_hw, shS_hw, shC_hw, shL_hw, ← bt_def, k6', if_pos nn0]
  | succ kn =>
    obtain ⟨b, b1, w', y1, y5, y6⟩ := k3 kn (by omega)
    obtain ⟨sb, b54⟩ := k4 kn (by omega) b b1
    obtain ⟨y2, y3, y4⟩ := k7 kn (by omega)
    have n0 : ¬ nn (kn + 1) = 0 := by rw [← nn0, nn_eq (by omega) (by omega)]; omega
    have m1 : nn (kn + 1) - 1 = nn kn := nn_sub (a := kn + 1) (b := 1) (by omega)
    have i20 : inb (nn kn) 20 := nn_inb (by omega) (by omega)
    have y1' : StC (u2 I 0 4 (nn kn)) b (zP K) (-1, w', 0) (U kn).1 := y1.cgo (fun x h1 h2 => u2_ne (by omega))
    obtain ⟨I1, e1, s1, f1, v5, v6⟩ := ec_becomeS (L := L) hP (sh20 h) sb (by omega) y1'
    have y2' : StMx (u2 (u2 J 0 2 0) 0 75 (nn kn)) 39 (22 * kn) (zP K) (U kn) := by unfold StMx; rw [u2_ne (by decide), u2_ne (by decide)]; exact y2
    obtain ⟨J1, e2, s2, s60, f2, f0⟩ := em_take (g := g) (M := M) (a := 39) (i := 22 * kn) rfl (show 22 * kn + 22 ≤ 440 by omega) (by decide) (by decide) hP y2'
    have e22 : (22 : Int32) * nn kn = nn (22 * kn) := nn_mul 22 kn
    have j75 : J1 0 75 = nn kn := by rw [f0 75 (by decide), u2_same]
    have o4 : I1 0 4 = nn kn := by rw [f1 0 (by omega), u2_same]
    have fk : frY I I1 := ⟨fun x h0 h1 => by rw [f1 x (by omega), u2_ne h0], fun k h1 h2 => by rw [f1 0 (by omega), u2_nk _ _ h1]⟩
    have fn : frN J J1 := ⟨fun x h0 h1 => by rw [f2 x h0 (by omega), u2_ne h0, u2_ne h0], fun k h1 h2 h3 h4 => by rw [f0 k h2, u2_nk _ _ h3, u2_nk _ _ h1]⟩
    refine ⟨nn kn, h, I1, L, J1, u2 M 0 61 (M 40 kn), ?_, ?_, ⟨c, K, A, w', (U kn).1, (U kn).2.1, (U kn).2.2, D, N, sn, kv, kn, U, im, X, tp, tb, ⟨⟨⟨q1.1.1.frY fk, s1⟩, ⟨q1.2.1.1.frN fn, s2⟩, y4.1⟩, ?_, s60, ?_, ?_, y4.2⟩, n.frY fk fn, ⟨⟨o4, by omega, fun i hi => ?_, k4, k5⟩, j75, fun i hi => ?_⟩, ⟨?_, ?_, fun y => ?_⟩, t.frY fk fn, flt_frY fk fn u, sh⟩, by omega, by omega⟩
    · simp only [cA_undo, bnd_e, cal_s, onr_s, jon_e, gI_hw, gL_hw, gT_hw, gR_hw, gN_hw, sI_hw, sL_hw, cV_hw, shS_hw, shC_hw, shL_hw, ← bt_def, k1, if_neg n0, m1, u2_same, grd_pos i20, nn_clamp (show kn < 2147483648 by omega), b1, onr_some, e1, o4]
    · simp only [m_undo, bnd_e, cal_s, onr_s, jon_e, gI_hw, gL_hw, gT_hw, gR_hw, gN_hw, sI_hw, sL_hw, cV_hw, shS_hw, shC_hw, shL_hw, ← bt_def, k6', if_neg n0, m1, u2_same, e22, e2, j75, grd_pos i20, nn_clamp (show kn < 2147483648 by omega)]
    · rw [v5, u2_ne (by omega)]; exact y5
    · rw [v6, u2_ne (by omega)]; exact y6
    · rw [u2_same]; exact y3
    · obtain ⟨b', b1', b2'⟩ := k3 i (by omega)
      have := (k4 i (by omega) b' b1').2
      exact ⟨b', b1', b2'.cg (fun x h1 h2 => fk.1 x (by omega) (by omega))⟩
    · obtain ⟨z1, z2, z3⟩ := k7 i (by omega)
      refine ⟨?_, by rw [u2_ne (by decide)]; exact z2, z3⟩
      unfold StMx; rw [f2 39 (by decide) (by omega), u2_ne (by decide), u2_ne (by decide)]; exact z1
    · rw [f1 0 (by omega), u2_nk _ _ (by decide)]; exact i1
    · rw [f0 78 (by decide), u2_nk _ _ (by decide), u2_nk _ _ (by decide)]; exact i2
    · obtain ⟨y1, y2, y3, y4⟩ := i3 y
      refine ⟨y1.cg (fun x h1 h2 => by rw [f1 x (by omega), u2_ne (by omega)]), ?_, by rw [u2_nk _ _ (by decide)]; exact y3, y4⟩
      unfold StMx; rw [f2 41 (by decide) (by omega), u2_ne (by decide), u2_ne (by decide)]; exact y2
end P4
