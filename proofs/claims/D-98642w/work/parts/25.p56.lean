/-! PURE LEVEL 56: feed, whole -/
section P14
variable {h g : HP} {I J : Nat → Nat → Int32} {L M : Nat → Nat → Int64} {c : Nat} {K : KT} {A : Nat → Nat → Nat} {w : Int32} {S : ST} {al nu : Int32} {D : Nat → Nat} {N : Nat → Nat → Int32} {sn : Nat} {kv : Int32} {kn : Nat} {U : Nat → R3} {im : Bool} {X : R3} {tp : Nat} {tb : Nat → Nat}
theorem frT1.tr {I1 I2 : Nat → Nat → Int32} (a : frT1 I I1) (b : frT1 I1 I2) : frT1 I I2 := ⟨fun x h0 h1 => (b.1 x h0 h1).trans (a.1 x h0 h1), fun k hk => (b.2 k hk).trans (a.2 k hk)⟩
theorem frT1_C {I' : Nat → Nat → Int32} (f : frT1 I I') : frC (cV h) I I' := by
  intro x hx
  refine f.1 x (fun e => ?_) (fun e => ?_)
  · subst e; rw [show gT (cV h) 0 = (2, 0) from rfl] at hx; revert hx; decide
  · subst e; rw [show gT (cV h) 1 = cT 1 from rfl] at hx; revert hx; decide
theorem InvP.tape {I' J' : Nat → Nat → Int32} {tp' : Nat} {tb' : Nat → Nat} (q : InvP h I J M c K A w S al nu D N sn kv kn U im X tp tb) (f : frT1 I I') (f' : frT1 J J') (t : Tap I' J' tp' tb') : InvP h I' J' M c K A w S al nu D N sn kv kn U im X tp' tb' := by
  obtain ⟨⟨q1, q2, q3, q4, q5, q6⟩, ⟨n1, n2, n3, n4, n5, n6⟩, ⟨⟨k1, k2, k3, k4, k5⟩, k6, k7⟩, ⟨i1, i2, i3⟩, -, ⟨u1, u2'⟩, sh⟩ := q
  have o20 : I' 20 = I 20 := f.1 20 (by decide) (by decide)
  refine ⟨⟨⟨⟨⟨q1.1.1.1, q1.1.1.2.1.frC (frT1_C f), q1.1.1.2.2⟩, q1.1.2.cgo (fun x h1 h2 => f.1 x (by omega) (by omega))⟩, ⟨q1.2.1.1.cg (fun x h1 h2 => f'.1 x (by omega) (by omega)) (fun k h1 h2 => f'.2 k (by omega)), ?_⟩, q1.2.2⟩, by rw [o20]; exact q2, by rw [f'.2 60 (by decide)]; exact q3, by rw [o20]; exact q4, q5, q6⟩, ⟨n1.cg (fun x hx => f.1 x (by omega) (by omega)), n2.cg (f'.1 37 (by decide) (by decide)) (f'.2 71 (by decide)), n3, by rw [f.2 23 (by decide)]; exact n4, by rw [f'.2 72 (by decide)]; exact n5, n6⟩, ⟨⟨by rw [f.2 4 (by decide)]; exact k1, k2, fun i hi => ?_, k4, k5⟩, by rw [f'.2 75 (by decide)]; exact k6, fun i hi => ?_⟩, ⟨by rw [f.2 14 (by decide)]; exact i1, by rw [f'.2 78 (by decide)]; exact i2, fun y => ?_⟩, t, ⟨by rw [f.2 2 (by decide), f'.2 4 (by decide)]; exact u1, by rw [f.2 3 (by decide), f'.2 5 (by decide)]; exact u2'⟩, sh⟩
  · have : StM J' 0 (zP K) S := by
      unfold StM
      rw [f'.1 29 (by decide) (by decide), f'.1 30 (by decide) (by decide), f'.1 31 (by decide) (by decide), f'.1 32 (by decide) (by decide), f'.1 33 (by decide) (by decide)]; exact q1.2.1.2
    exact this
  · obtain ⟨b, b1, b2⟩ := k3 i hi
    have := (k4 i (by omega) b b1).2
    exact ⟨b, b1, b2.cg (fun x h1 h2 => f.1 x (by omega) (by omega))⟩
  · obtain ⟨z1, z2, z3⟩ := k7 i hi
    refine ⟨?_, z2, z3⟩
    unfold StMx; rw [f'.1 39 (by decide) (by decide)]; exact z1
  · obtain ⟨y1, y2, y3, y4⟩ := i3 y
    refine ⟨y1.cg (fun x h1 h2 => f.1 x (by omega) (by omega)), ?_, y3, y4⟩
    unfold StMx; rw [f'.1 41 (by decide) (by decide)]; exact y2
theorem tb5 (tb : Nat → Nat) (tp : Nat) (f1 f2 f3 f4 f5 : Int32) : (∀ i, i < tp → tb4 (tb4 (tb4 (tb4 (tb4 tb tp f1) (tp + 4) f2) (tp + 4 + 4) f3) (tp + 4 + 4 + 4) f4) (tp + 4 + 4 + 4 + 4) f5 i = tb i) ∧ ∀ p, p < 20 → tb4 (tb4 (tb4 (tb4 (tb4 tb tp f1) (tp + 4) f2) (tp + 4 + 4) f3) (tp + 4 + 4 + 4) f4) (tp + 4 + 4 + 4 + 4) f5 (tp + p) = bv (sel f1 f2 f3 f4 f5 p) (p % 4) := by
  constructor
  · intro i hi
    unfold tb4
    rw [if_pos (by omega), if_pos (by omega), if_pos (by omega), if_pos (by omega), if_pos (by omega)]
  · intro p hp
    unfold tb4 sel
    by_cases y4 : p < 4
    · rw [if_pos (by omega), if_pos (by omega), if_pos (by omega), if_pos (by omega), if_neg (by omega), if_pos y4, show tp + p - tp = p % 4 by omega]
    · by_cases y8 : p < 8
      · rw [if_pos (by omega), if_pos (by omega), if_pos (by omega), if_neg (by omega), if_neg y4, if_pos y8, show tp + p - (tp + 4) = p % 4 by omega]
      · by_cases y12 : p < 12
        · rw [if_pos (by omega), if_pos (by omega), if_neg (by omega), if_neg y4, if_neg y8, if_pos y12, show tp + p - (tp + 4 + 4) = p % 4 by omega]
        · by_cases y16 : p < 16
          · rw [if_pos (by omega), if_neg (by omega), if_neg y4, if_neg y8, if_neg y12, if_pos y16, show tp + p - (tp + 4 + 4 + 4) = p % 4 by omega]
          · rw [if_neg (by omega), if_neg y4, if_neg y8, if_neg y12, if_neg y16, show tp + p - (tp + 4 + 4 + 4 + 4) = p % 4 by omega]
theorem P_feed (q : Inv h I J M) (f1 f2 f3 f4 f5 : Int32) : PB h g (cA_feed f1 f2 f3 f4 f5 (hw h I L)) (m_feed f1 f2 f3 f4 f5 (hw g J M)) := by
  have q0 := q.fr (frA.rfl I) (frB.u0 J (k := 2) 0 (by omega)) (frL2.rfl _ M)
  simp only [cA_feed, m_feed, bnd_e, cal_s, onr_s, jon_e, gI_hw, gL_hw, gT_hw, gR_hw, gN_hw, sI_hw, sL_hw, cV_hw, shS_hw, shC_hw, shL_hw, ← bt_def]
  generalize u2 J 0 2 0 = J1 at q0 ⊢
  obtain ⟨c, K, A, w, S, al, nu, D, N, sn, kv, kn, U, im, X, tp, tb, p⟩ := q0.p
  obtain ⟨t1, t2, t3, t4⟩ := p.2.2.2.2.1
  have e20 : nn tp + 20 = nn (tp + 20) := nn_add tp 20
  simp only [t1, t2, e20]
  by_cases z : tp + 20 ≤ 700
  · have z' : nn (tp + 20) ≤ (700 : Int32) := (nn_le (b := 700) (by omega) (by omega)).mpr z
    rw [if_pos z', if_pos z']
    obtain ⟨I1, e1, c1, r1⟩ := ec_put (h := h) (L := L) (by omega) f1 (show TapC I tp tb from ⟨t1, fun i hi => ⟨(t4 i hi).1, (t4 i hi).2.1⟩⟩)
    obtain ⟨I2, e2, c2, r2⟩ := ec_put (h := h) (L := L) (by omega) f2 c1
    obtain ⟨I3, e3, c3, r3⟩ := ec_put (h := h) (L := L) (by omega) f3 c2
    obtain ⟨I4, e4, c4, r4⟩ := ec_put (h := h) (L := L) (by omega) f4 c3
    obtain ⟨I5, e5, c5, r5⟩ := ec_put (h := h) (L := L) (by omega) f5 c4
    obtain ⟨J2, e6, a6, b6, g6⟩ := em_f23 (g := g) f1 f2 f3 f4 f5 z M 20 0 J1 FU (by omega) (by show 20 < 1000; omega) t2
    rw [nn0] at e6
    have j1 : J2 0 1 = nn tp := by rw [g6 0 (by decide)]; exact t2
    simp only [e1, e2, e3, e4, e5, e6, bnd_e, cal_s, onr_s, jon_e, gI_hw, gL_hw, gT_hw, gR_hw, gN_hw, sI_hw, sL_hw, cV_hw, shS_hw, shC_hw, shL_hw, ← bt_def, j1, e20, c5.1, u2_same]
    obtain ⟨x1, x2⟩ := tb5 tb tp f1 f2 f3 f4 f5
    refine ⟨nn (tp + 20), h, I5, L, u2 J2 0 1 (nn (tp + 20)), M, rfl, rfl, (p.tape ((((r1.tr r2).tr r3).tr r4).tr r5) ⟨fun x h0 h1 => by rw [u2_ne h0, g6 x h1], fun k hk => by rw [u2_nk _ _ hk, g6 0 (by decide)]⟩ ⟨c5.1, u2_same _ _ _ _, ⟨by omega, by rw [u2_ne (by decide), g6 2 (by decide)]; exact t3.2⟩, fun i hi => ⟨(c5.2 i hi).1, (c5.2 i hi).2, ?_⟩⟩).inv, by omega, by omega⟩
    rw [u2_ne (by decide)]
    by_cases y : i < tp
    · rw [x1 i y, b6 i (by omega)]; exact (t4 i y).2.2
    · obtain ⟨p', rfl⟩ : ∃ p', i = tp + p' := ⟨i - tp, by omega⟩
      rw [x2 p' (by omega)]; exact a6 p' (by omega) (by omega)
  · have z' : ¬ nn (tp + 20) ≤ (700 : Int32) := fun e => z ((nn_le (b := 700) (by omega) (by omega)).mp e)
    rw [if_neg z', if_neg z']
    exact ⟨_, h, I, L, _, M, rfl, rfl, q0, by omega, by omega⟩
end P14
