/-! PURE LEVEL 44: known, keep, back, undo -/
section P3
variable {h g : HP} {I J : Nat → Nat → Int32} {L M : Nat → Nat → Int64}
theorem frC_0 (h : HP) (I : Nat → Nat → Int32) (k : Nat) (v : Int32) : frC (cV h) I (u2 I 0 k v) := by
  intro x hx
  refine u2_ne (fun e => ?_) ..
  subst e
  rw [show gT (cV h) 0 = (2, 0) from rfl] at hx; revert hx; decide
theorem CW.c0 {c : Nat} {K : KT} {A : Nat → Nat → Nat} {k : Nat} {v : Int32} (W : CW h I c K A) : CW h (u2 I 0 k v) c K A := ⟨W.1, W.2.1.frC (frC_0 h I k v), W.2.2⟩
theorem MW.cg {J' : Nat → Nat → Int32} {K : KT} (f : ∀ x, 4 ≤ x → x ≤ 24 → J' x = J x) (f0 : ∀ k, 12 ≤ k → k ≤ 16 → J' 0 k = J 0 k) (q : MW J K) : MW J' K := ⟨q.1.fr f f0, q.2⟩
theorem NtC.cg {I' : Nat → Nat → Int32} {D : Nat → Nat} {N : Nat → Nat → Int32} {sn : Nat} (f : ∀ x, x = 41 ∨ 53 < x → I' x = I x) (q : NtC h I D N sn) : NtC h I' D N sn := by
  refine ⟨by rw [f 41 (by omega)]; exact q.1, fun k hk => ?_⟩
  obtain ⟨q1, q2⟩ := q.2 k hk
  refine ⟨q1, ?_⟩
  rcases q2 with ⟨a, b, c⟩ | ⟨a, b, c⟩
  · rw [f (D k) (by have := big_14 (Or.inl b); omega)]; exact Or.inl ⟨a, b, c⟩
  · rw [f (D k) (by have := big_14 (Or.inr b); omega)]; exact Or.inr ⟨a, b, c⟩
theorem NtM.cg {J' : Nat → Nat → Int32} {N : Nat → Nat → Int32} {sn : Nat} (f : J' 37 = J 37) (f0 : J' 0 71 = J 0 71) (q : NtM J N sn) : NtM J' N sn := by
  unfold NtM; rw [f, f0]; exact q
theorem P_known (q : Inv h I J M) (x : Int32) : PB h g (cA_known x (hw h I L)) (m_known x (hw g J M)) := by
  have q' := q.fr (frA.rfl I) (frB.u0 J (k := 2) 0 (by omega)) (frL2.rfl _ M)
  obtain ⟨c, K, A, w, S, al, nu, D, N, sn, kv, kn, U, im, X, tp, tb, ⟨q1, q2, q3, q4, q5, q6⟩, ⟨n1, n2, n3, n4, n5, n6⟩, ⟨⟨k1, k2, k3, k4, k5⟩, k6, k7⟩, ⟨i1, i2, i3⟩, ⟨t1, t2, t3, t4⟩, ⟨u1, u2'⟩, sh⟩ := q'
  have hs := n3.1
  have e1 := ec_size (I := I) (L := L) (sh41 h)
  rw [n1.1] at e1
  simp only [cA_known, m_known, bnd_e, cal_s, onr_s, jon_e, gI_hw, gL_hw, gT_hw, gR_hw, gN_hw, sI_hw, sL_hw, cV_hw, shS_hw, shC_hw, shL_hw, ← bt_def, e1, show ((-1 : Int64)) = ((-1 : Int32)).toInt64 from rfl, ec_in, em_in, n2.1, bI_eq0]
  cases z : decide (¬ x < -1 ∧ ¬ nn sn < x) with
  | false => simp only [eq_self, Bool.true_eq_false, if_true, if_false]; exact ⟨_, h, I, L, _, M, rfl, rfl, q.fr (frA.rfl I) (frB.u0 J (k := 2) 0 (by omega)) (frL2.rfl _ M), by omega, by omega⟩
  | true =>
    simp only [eq_self, Bool.true_eq_false, if_true, if_false]
    have z' := of_decide_eq_true z
    refine ⟨_, h, _, L, _, M, rfl, rfl, ?_, by omega, by omega⟩
    refine ⟨c, K, A, w, S, al, nu, D, N, sn, x, kn, U, im, X, tp, tb, ⟨⟨⟨q1.1.1.c0, ?_⟩, ⟨q1.2.1.1.cg (fun x h1 h2 => u2_ne (by omega)) (fun k h1 h2 => u2_nk _ _ (by omega)), q1.2.1.2.u0⟩, q1.2.2⟩, by rw [u2_ne (by decide)]; exact q2, by rw [u2_nk _ _ (by decide)]; exact q3, by rw [u2_ne (by decide)]; exact q4, q5, q6⟩, ⟨n1.cg (fun x hx => u2_ne (by omega)), n2.cg (u2_ne (by decide)) (u2_nk _ _ (by decide)), n3, u2_same _ _ _ _, u2_same _ _ _ _, ?_⟩, ⟨⟨by rw [u2_nk _ _ (by decide)]; exact k1, k2, fun i hi => ?_, k4, k5⟩, by rw [u2_nk _ _ (by decide)]; exact k6, fun i hi => by unfold StMx; rw [u2_ne (by decide)]; exact k7 i hi⟩, ⟨by rw [u2_nk _ _ (by decide)]; exact i1, by rw [u2_nk _ _ (by decide)]; exact i2, fun y => ?_⟩, ⟨by rw [u2_nk _ _ (by decide)]; exact t1, by rw [u2_nk _ _ (by decide)]; exact t2, ⟨t3.1, by rw [u2_ne (by decide)]; exact t3.2⟩, by rw [u2_ne (by decide), u2_ne (by decide)]; exact t4⟩, ⟨by rw [u2_nk _ _ (by decide), u2_nk _ _ (by decide)]; exact u1, by rw [u2_nk _ _ (by decide), u2_nk _ _ (by decide)]; exact u2'⟩, sh⟩
    · unfold StC; rw [u2_ne (by decide), u2_ne (by decide), u2_ne (by decide), u2_ne (by decide), u2_ne (by decide)]; exact q1.1.2
    · by_cases y : x = -1
      · exact Or.inl y
      · right
        have y1 : ¬ x < 0 := by
          intro e
          apply y
          have := z'.1
          simp only [Int32.lt_iff_toInt_lt] at this e
          apply Int32.toInt_inj.mp
          have e1 : (-1 : Int32).toInt = -1 := rfl
          have e0 : (0 : Int32).toInt = 0 := rfl
          omega
        have y2 : x < nn (sn + 1) := Int32.lt_of_le_of_lt (Int32.not_lt.mp z'.2) ((nn_lt (by omega) (by omega)).mpr (by omega))
        obtain ⟨n, hn, e⟩ := nn_of (by omega) y1 y2
        exact ⟨n, by omega, e⟩
    · obtain ⟨b, b1, b2⟩ := k3 i hi
      have := (k4 i (by omega) b b1).2
      exact ⟨b, b1, b2.cg (fun x h1 h2 => u2_ne (by omega))⟩
    · obtain ⟨y1, y2, y3, y4⟩ := i3 y
      refine ⟨y1.cg (fun x h1 h2 => u2_ne (by omega)), ?_, y3, y4⟩
      unfold StMx; rw [u2_ne (by decide)]; exact y2

/-- frames of keep, back, undo -/
def frY (I I' : Nat → Nat → Int32) : Prop := (∀ x, x ≠ 0 → (x < 20 ∨ (24 < x ∧ x < 30) ∨ 34 < x) → I' x = I x) ∧ ∀ k, k ≠ 4 → k ≠ 14 → I' 0 k = I 0 k
def frN (J J' : Nat → Nat → Int32) : Prop := (∀ x, x ≠ 0 → (x < 29 ∨ (33 < x ∧ x ≠ 39 ∧ x ≠ 41)) → J' x = J x) ∧ ∀ k, k ≠ 2 → k ≠ 60 → k ≠ 75 → k ≠ 78 → J' 0 k = J 0 k
theorem frY_C {I' : Nat → Nat → Int32} (f : frY I I') : frC (cV h) I I' := by
  intro x hx
  by_cases z : x ≠ 0 ∧ (x < 20 ∨ (24 < x ∧ x < 30) ∨ 34 < x)
  · exact f.1 x z.1 z.2
  · exfalso
    have : x = 0 ∨ x = 20 ∨ x = 21 ∨ x = 22 ∨ x = 23 ∨ x = 24 ∨ x = 30 ∨ x = 31 ∨ x = 32 ∨ x = 33 ∨ x = 34 := by omega
    rcases this with rfl | rfl | rfl | rfl | rfl | rfl | rfl | rfl | rfl | rfl | rfl
    · rw [show gT (cV h) 0 = (2, 0) from rfl] at hx; revert hx; decide
    · rw [show gT (cV h) 20 = (6, 0) from rfl] at hx; revert hx; decide
    · rw [show gT (cV h) 21 = (100, 5) from rfl] at hx; revert hx; decide
    · rw [show gT (cV h) 22 = (100, 5) from rfl] at hx; revert hx; decide
    · rw [show gT (cV h) 23 = (100, 5) from rfl] at hx; revert hx; decide
    · rw [show gT (cV h) 24 = (100, 5) from rfl] at hx; revert hx; decide
    · rw [show gT (cV h) 30 = (6, 0) from rfl] at hx; revert hx; decide
    · rw [show gT (cV h) 31 = (100, 5) from rfl] at hx; revert hx; decide
    · rw [show gT (cV h) 32 = (100, 5) from rfl] at hx; revert hx; decide
    · rw [show gT (cV h) 33 = (100, 5) from rfl] at hx; revert hx; decide
    · rw [show gT (cV h) 34 = (100, 5) from rfl] at hx; revert hx; decide
theorem CW.frY {I' : Nat → Nat → Int32} {c : Nat} {K : KT} {A : Nat → Nat → Nat} (f : frY I I') (W : CW h I c K A) : CW h I' c K A := ⟨W.1, W.2.1.frC (frY_C f), W.2.2⟩
theorem MW.frN {J' : Nat → Nat → Int32} {K : KT} (f : frN J J') (q : MW J K) : MW J' K := q.cg (fun x h1 h2 => f.1 x (by omega) (by omega)) (fun k h1 h2 => f.2 k (by omega) (by omega) (by omega) (by omega))
theorem Nts.frY {I' J' : Nat → Nat → Int32} {K : KT} {D : Nat → Nat} {N : Nat → Nat → Int32} {sn : Nat} {kv : Int32} (f : frY I I') (f' : frN J J') (q : Nts h I J K D N sn kv) : Nts h I' J' K D N sn kv := by
  obtain ⟨n1, n2, n3, n4, n5, n6⟩ := q
  exact ⟨n1.cg (fun x hx => f.1 x (by omega) (by omega)), n2.cg (f'.1 37 (by decide) (by omega)) (f'.2 71 (by decide) (by decide) (by decide) (by decide)), n3, by rw [f.2 23 (by decide) (by decide)]; exact n4, by rw [f'.2 72 (by decide) (by decide) (by decide) (by decide)]; exact n5, n6⟩
theorem Tap.frY {I' J' : Nat → Nat → Int32} {tp : Nat} {tb : Nat → Nat} (f : frY I I') (f' : frN J J') (q : Tap I J tp tb) : Tap I' J' tp tb := by
  obtain ⟨t1, t2, t3, t4⟩ := q
  exact ⟨by rw [f.2 1 (by decide) (by decide)]; exact t1, by rw [f'.2 1 (by decide) (by decide) (by decide) (by decide)]; exact t2, ⟨t3.1, by rw [f'.1 2 (by decide) (by omega)]; exact t3.2⟩, by rw [f.1 1 (by decide) (by omega), f'.1 1 (by decide) (by omega)]; exact t4⟩
theorem flt_frY {I' J' : Nat → Nat → Int32} (f : frY I I') (f' : frN J J') (q : I 0 2 = J 0 4 ∧ I 0 3 = J 0 5) : I' 0 2 = J' 0 4 ∧ I' 0 3 = J' 0 5 := by
  rw [f.2 2 (by decide) (by decide), f.2 3 (by decide) (by decide), f'.2 4 (by decide) (by decide) (by decide) (by decide), f'.2 5 (by decide) (by decide) (by decide) (by decide)]; exact q
theorem StC.cgo {I' : Nat → Nat → Int32} {o P : Nat} {F : FT} {S : ST} (e : ∀ x, o ≤ x → x ≤ o + 4 → I' x = I x) (q : StC I o P F S) : StC I' o P F S := by
  unfold StC
  rw [e o (by omega) (by omega), e (o + 1) (by omega) (by omega), e (o + 2) (by omega) (by omega), e (o + 3) (by omega) (by omega), e (o + 4) (by omega) (by omega)]; exact q
theorem P_keep (q : Inv h I J M) : PB h g (cA_keep (hw h I L)) (m_keep (hw g J M)) := by
  obtain ⟨c, K, A, w, S, al, nu, D, N, sn, kv, kn, U, im, X, tp, tb, ⟨q1, q2, q3, q4, q5, q6⟩, n, ⟨⟨k1, k2, k3, k4, k5⟩, k6, k7⟩, ⟨i1, i2, i3⟩, t, u, sh⟩ := q
  have hP := q1.1.1.p5
  obtain ⟨I1, e1, s1, f1, v5, v6⟩ := ec_becomeS (L := L) hP (sh30 h) (sh20 h) (by decide) q1.1.2
  have sj : StM (u2 (u2 J 0 2 0) 0 78 1) 0 (zP K) S := q1.2.1.2.u0.u0
  obtain ⟨J1, e2, s2, c2, f2⟩ := em_put (g := g) (M := M) (a := 41) (i := 0) rfl (by decide) (by decide) (by decide) hP sj
  rw [nn0] at e2
  have j60 : (u2 (u2 J 0 2 0) 0 78 1) 0 60 = al := by rw [u2_nk _ _ (by decide), u2_nk _ _ (by decide)]; exact q3
  have fk : frY I (u2 I1 0 14 1) := ⟨fun x h0 h1 => by rw [u2_ne h0]; exact f1 x (by omega), fun k h1 h2 => by rw [u2_nk _ _ h2, f1 0 (by omega)]⟩
  have fn : frN J J1 := ⟨fun x h0 h1 => by rw [f2 x (by omega), u2_ne h0, u2_ne h0], fun k h1 h2 h3 h4 => by rw [f2 0 (by decide), u2_nk _ _ h4, u2_nk _ _ h1]⟩
  have j33 : J1 33 0 = sd S := by rw [f2 33 (by decide)]; exact sj.2
  have i20 : I1 20 = I 20 := f1 20 (by omega)
  refine ⟨sd S, h, u2 I1 0 14 1, L, J1, u2 M 0 80 (M 0 61), ?_, ?_, ⟨c, K, A, w, S, al, nu, D, N, sn, kv, kn, U, true, (S, al, nu), tp, tb, ⟨⟨⟨q1.1.1.frY fk, ?_⟩, ⟨q1.2.1.1.frN fn, ?_⟩, q1.2.2⟩, ?_, ?_, ?_, ?_, q6⟩, n.frY fk fn, ⟨⟨?_, k2, fun i hi => ?_, k4, k5⟩, ?_, fun i hi => ?_⟩, ⟨u2_same _ _ _ _, ?_, fun _ => ⟨⟨w, ?_, ?_, ?_⟩, ?_, ?_, q1.2.2, q6⟩⟩, t.frY fk fn, flt_frY fk fn u, sh⟩, by omega, by omega⟩
  · simp only [cA_keep, bnd_e, cal_s, onr_s, jon_e, gI_hw, gL_hw, gT_hw, gR_hw, gN_hw, sI_hw, sL_hw, cV_hw, shS_hw, shC_hw, shL_hw, ← bt_def, e1, u2_ne (show 20 ≠ 0 by decide), i20, q1.1.2.2.1]
  · simp only [m_keep, bnd_e, cal_s, onr_s, jon_e, gI_hw, gL_hw, gT_hw, gR_hw, gN_hw, sI_hw, sL_hw, cV_hw, shS_hw, shC_hw, shL_hw, ← bt_def, e2, grd_pos (show inb (0 : Int32) 2 by decide), tn0, j33]
  · exact q1.1.2.cgo (fun x h1 h2 => by rw [u2_ne (by omega)]; exact f1 x (by omega))
  · have : StM J1 0 (zP K) S := by unfold StM; rw [f2 29 (by decide), f2 30 (by decide), f2 31 (by decide), f2 32 (by decide), f2 33 (by decide)]; exact sj
    exact this
  · rw [u2_ne (by decide), i20]; exact q2
  · rw [f2 0 (by decide)]; exact j60
  · rw [u2_ne (by decide), i20]; exact q4
  · rw [u2_nk _ _ (by decide)]; exact q5
  · rw [u2_nk _ _ (by decide), f1 0 (by omega)]; exact k1
  · obtain ⟨b, b1, b2⟩ := k3 i hi
    have := (k4 i (by omega) b b1).2
    exact ⟨b, b1, b2.cg (fun x h1 h2 => by rw [u2_ne (by omega)]; exact f1 x (by omega))⟩
  · rw [f2 0 (by decide), u2_nk _ _ (by decide), u2_nk _ _ (by decide)]; exact k6
  · obtain ⟨z1, z2, z3⟩ := k7 i hi
    refine ⟨?_, by rw [u2_ne (by decide)]; exact z2, z3⟩
    unfold StMx; rw [f2 39 (by decide), u2_ne (by decide), u2_ne (by decide)]; exact z1
  · rw [f2 0 (by decide), u2_same]; rfl
  · exact s1.cgo (fun x h1 h2 => u2_ne (by omega))
  · rw [u2_ne (by decide), v5]; exact q2
  · rw [u2_ne (by decide), v6]; exact q4
  · have := s2 nu
    rw [j60] at this; exact this
  · rw [u2_same]; exact q5
end P3
