/-! PURE LEVEL 25: tried, care -/
def zr0 (S : ST) : ST := (sk S, sl S, (fun _ => 0), sa S, sd S)
section B7
variable {h g : HP} {I0 J0 : Nat → Nat → Int32} {M0 : Nat → Nat → Int64} {c : Nat} {K : KT} {A : Nat → Nat → Nat} {w : Int32} {S : ST}
theorem StC.fl {I : Nat → Nat → Int32} {P : Nat} (s : StC I 25 P (-1, w, 0) S) (x y : Int32) (hx : ¬ x = 1) : StC (u2 (u2 I 25 7 x) 25 8 y) 25 P (x, y, 0) S := by
  obtain ⟨s1, s2, s3, s4, s5⟩ := s
  refine ⟨fun p hp => ?_, ?_, ?_, u2_same _ _ _ _, ?_⟩
  · have q := s1 p hp
    rw [if_neg (show ¬ (-1 : Int32) = 1 by decide)] at q
    rw [if_neg hx, u2_ne (show 25 + 1 ≠ 25 by decide), u2_ne (show 25 + 1 ≠ 25 by decide), u2_ne (show 25 + 2 ≠ 25 by decide), u2_ne (show 25 + 2 ≠ 25 by decide), u2_ne (show 25 + 3 ≠ 25 by decide), u2_ne (show 25 + 3 ≠ 25 by decide), u2_ne (show 25 + 4 ≠ 25 by decide), u2_ne (show 25 + 4 ≠ 25 by decide)]
    exact q
  · rw [u2_nk _ _ (by decide), u2_nk _ _ (by decide)]; exact s2
  · rw [u2_nk _ _ (by decide), u2_same]
  · rw [u2_nk _ _ (by decide), u2_nk _ _ (by decide)]; exact s5
theorem StC.fl1 {I : Nat → Nat → Int32} {P : Nat} (s : StC I 25 P (-1, w, 0) S) (y : Int32) : StC (u2 (u2 I 25 7 1) 25 8 y) 25 P (1, y, 0) (zr0 S) := by
  obtain ⟨s1, s2, s3, s4, s5⟩ := s
  refine ⟨fun p hp => ?_, ?_, ?_, u2_same _ _ _ _, ?_⟩
  · have q := s1 p hp
    rw [if_pos rfl, u2_ne (show 25 + 1 ≠ 25 by decide), u2_ne (show 25 + 1 ≠ 25 by decide), u2_ne (show 25 + 3 ≠ 25 by decide), u2_ne (show 25 + 3 ≠ 25 by decide), u2_ne (show 25 + 4 ≠ 25 by decide), u2_ne (show 25 + 4 ≠ 25 by decide)]
    exact ⟨q.1, rfl, q.2.2⟩
  · rw [u2_nk _ _ (by decide), u2_nk _ _ (by decide)]; exact s2
  · rw [u2_nk _ _ (by decide), u2_same]
  · rw [u2_nk _ _ (by decide), u2_nk _ _ (by decide)]; exact s5
theorem ec_tr {I I2 : Nat → Nat → Int32} {L : Nat → Nat → Int64} (W : CW h I c K A) {F : FT} {S' : ST} (f : frA I I2) (s : StC I2 25 (zP K) F S') (ws : WS (zP K) S') : ∃ I' L', cS_askAll 25 (hw h I2 L) = some ((), hw h I' L') ∧ cS_sum 25 (hw h I' L') = some (zsum K F (zallS K F S'), hw h I' L') ∧ frA I I' := by
  obtain ⟨I3, L3, e3, s3, f3⟩ := ec_askAll (L := L) (W.frA f) (sh25 h) s (zallS_ok W.2.2 ws).1 (by decide)
  have f4 := f.tr (frA.o (by omega) f3)
  exact ⟨I3, L3, e3, ec_sum (W.frA f4) (sh25 h) s3, f4⟩
theorem em_tr {J J2 : Nat → Nat → Int32} {M : Nat → Nat → Int64} (V : MW J K) (t : StM J 0 (zP K) S) (ws0 : WS (zP K) S) {F : FT} {S' : ST} (f : frB J J2) (fl : FlM J2 F) (h2 : J2 0 62 = 0) (s : StM J2 1 (zP K) S') (ws : WS (zP K) S') : ∃ J' M', m_askAll (hw g J2 M) = some ((), hw g J' M') ∧ m_sumIn 1 (hw g J' M') = some (zsum K F (zallS K F S'), hw g J' M') ∧ frB J J' ∧ frL2 false M M' := by
  obtain ⟨J3, M3, e3, s3, f3, l3, fl3⟩ := em_try (g := g) (M := M) V t ws0 ws f fl h2 s
  exact ⟨J3, M3, e3, em_sum (h := g) (L := M3) (V.frB f3) (b := 1) (by omega) s3 (zallS_ok V.2 ws).2 fl3.2.2.1, f3, l3⟩
theorem em_tried1 : ∀ (j i : Nat) (J : Nat → Nat → Int32) (M : Nat → Nat → Int64) (fuel : Nat), i + j = 5 → j < fuel → (∀ p, p < i → J 31 (5 + p) = 0) → ∃ J', (∀ k, m_tried_115 1 k fuel (nn i) (hw g J M) = k (hw g J' M)) ∧ (∀ p, p < 5 → J' 31 (5 + p) = 0) ∧ (∀ x, x ≠ 31 → J' x = J x) ∧ ∀ k, k < 5 → J' 31 k = J 31 k := by
  intro j
  induction j with
  | zero =>
    intro i J M fuel hi hf hz
    obtain ⟨m, rfl⟩ : ∃ m, fuel = m + 1 := ⟨fuel - 1, by omega⟩
    have : (5 : Int32) ≤ nn i := nn_ple (n := 5) (by omega) (by omega)
    refine ⟨J, fun k => ?_, fun p hp => hz p (by omega), fun _ _ => rfl, fun _ _ => rfl⟩
    rw [m_tried_115, if_pos this]
  | succ j ih =>
    intro i J M fuel hi hf hz
    obtain ⟨m, rfl⟩ : ∃ m, fuel = m + 1 := ⟨fuel - 1, by omega⟩
    have nle : ¬ (5 : Int32) ≤ nn i := nn_nle (n := 5) (by omega) (by omega)
    obtain ⟨J1, e1, z1, f1, g1⟩ := ih (i + 1) (u2 J 31 (5 + i) 0) M m (by omega) (by omega) (fun p hp => by
      by_cases y : p = i
      · rw [y, u2_same]
      · rw [u2_nk _ _ (by omega)]; exact hz p (by omega))
    refine ⟨J1, fun k => ?_, z1, fun x hx => (f1 x hx).trans (u2_ne hx), fun k hk => (g1 k hk).trans (u2_nk _ _ (by omega))⟩
    rw [m_tried_115]
    simp only [bnd_e, cal_s, onr_s, jon_e, gI_hw, gL_hw, gT_hw, gR_hw, gN_hw, sI_hw, sL_hw, cV_hw, shS_hw, shC_hw, shL_hw, ← bt_def, if_neg nle, if_true, n5p, grd_pos (show inb (nn (5 + i)) 10 from nn_inb (by omega) (by omega)), nn_clamp (show 5 + i < 2147483648 by omega), nn_succ, e1]
theorem b_tried {I J : Nat → Nat → Int32} {L M : Nat → Nat → Int64} (a : At h I0 J0 M0 c K A w S I J M) (x y : Int32) : B2 h g I0 J0 M0 (cA_tried x y (hw h I L)) (m_tried x y (hw g J M)) := by
  have a := a.thr
  have W := a.1.1.1
  have s := a.1.1.2
  have V := a.1.2.1.1
  have t := a.1.2.1.2
  have ws := a.1.2.2
  have hP := W.p5
  have ei : cA_in x.toInt64 0 4 (hw h I L) = _ := ec_in x 0 4 (hw h I L)
  cases z : decide (¬ x < 0 ∧ ¬ 4 < x) with
  | false =>
    rw [z] at ei
    have x2 : ¬ x = 2 := fun q => by rw [q] at z; exact absurd z (by decide)
    have x3 : ¬ x = 3 := fun q => by rw [q] at z; exact absurd z (by decide)
    simp only [cA_tried, m_tried, bnd_e, cal_s, onr_s, jon_e, gI_hw, gL_hw, gT_hw, gR_hw, gN_hw, sI_hw, sL_hw, cV_hw, shS_hw, shC_hw, shL_hw, ← bt_def, if_neg x2, if_neg x3, ei, em_in, z, bI_f, if_true]
    exact a.end _
  | true =>
    rw [z] at ei
    obtain ⟨I1, e1, s1, f1, -⟩ := ec_other (L := L) W s
    obtain ⟨J1, e2, t2, fl, h3, h2, f2⟩ := em_lay (h := g) (L := M) hP t
    rw [decide_eq_true_eq] at z
    obtain ⟨k, hk, rfl⟩ : ∃ k, k < 5 ∧ x = nn k := nn_of (by omega) z.1 (by
      have := Int32.not_lt.mp z.2
      rw [Int32.le_iff_toInt_le] at this
      rw [Int32.lt_iff_toInt_lt]
      rw [show (4 : Int32).toInt = 4 from rfl] at this
      rw [show (nn 5).toInt = 5 from rfl]; omega)
    have z' : decide (¬ nn k < 0 ∧ ¬ 4 < nn k) = true := decide_eq_true z
    have : k = 0 ∨ k = 1 ∨ k = 2 ∨ k = 3 ∨ k = 4 := by omega
    rcases this with rfl | rfl | rfl | rfl | rfl
    · have ei : cA_in (0 : Int32).toInt64 0 4 (hw h I L) = some (1, hw h I L) := by rw [show (0 : Int32) = nn 0 from rfl, ei]; rfl
      have em : ∀ H, m_isIn (0 : Int32) 0 4 H = some (1, H) := fun H => by rw [em_in]; rfl
      show B2 h g I0 J0 M0 (cA_tried 0 y (hw h I L)) (m_tried 0 y (hw g J M))
      by_cases zz : y = 0
      case neg =>
        simp only [cA_tried, m_tried, bnd_e, cal_s, onr_s, jon_e, gI_hw, gL_hw, gT_hw, gR_hw, gN_hw, sI_hw, sL_hw, cV_hw, shS_hw, shC_hw, shL_hw, ← bt_def, em, ei, if_neg i10, show ¬ ((0 : Int32) = 1) by decide, show ¬ ((0 : Int32) = 2) by decide, show ¬ ((0 : Int32) = 3) by decide, show ¬ ((0 : Int32) = 4) by decide, if_false, if_true, if_neg zz]
        exact a.end _
      case pos =>
        have sA := s1.fl 0 y (by decide)
        obtain ⟨I5, L5, e5, e6, f5⟩ := ec_tr (I2 := (u2 (u2 I1 25 7 0) 25 8 y)) (L := L) W ((f1.tr (frA.u _ (by omega))).tr (frA.u _ (by omega))) sA ws
        have fJ : frB J1 (u2 (u2 (u2 (u2 J1 0 64 1) 0 66 0) 0 67 (-1)) 0 65 0) := (((frB.u0 _ _ (by omega)).tr (frB.u0 _ _ (by omega))).tr (frB.u0 _ _ (by omega))).tr (frB.u0 _ _ (by omega))
        have flJ : FlM (u2 (u2 (u2 (u2 J1 0 64 1) 0 66 0) 0 67 (-1)) 0 65 0) (0, y, 0) := by
          unfold FlM
          simp [u2_app]
          try decide
        have tJ : StM (u2 (u2 (u2 (u2 J1 0 64 1) 0 66 0) 0 67 (-1)) 0 65 0) 1 (zP K) S := t2.u0.u0.u0.u0
        have hJ : (u2 (u2 (u2 (u2 J1 0 64 1) 0 66 0) 0 67 (-1)) 0 65 0) 0 62 = 0 := by rw [u2_nk _ _ (by decide), u2_nk _ _ (by decide), u2_nk _ _ (by decide), u2_nk _ _ (by decide)]; exact h2
        have e7 : ∀ k, m_tried_115 0 k FU 0 (hw g (u2 (u2 (u2 (u2 J1 0 64 1) 0 66 0) 0 67 (-1)) 0 65 0) M) = k (hw g (u2 (u2 (u2 (u2 J1 0 64 1) 0 66 0) 0 67 (-1)) 0 65 0) M) := fun k => by
          rw [show FU = 999 + 1 from rfl, m_tried_115, if_neg (by decide), if_neg (by decide)]
        obtain ⟨J9, M9, e9, e10, f9, l9⟩ := em_tr (g := g) (M := M) V t ws (f2.tr fJ) flJ hJ tJ ws
        have a2 := a.to f5 (f9.tr (plI_fr J9)) l9
        subst zz
        simp only [cA_tried, m_tried, bnd_e, cal_s, onr_s, jon_e, gI_hw, gL_hw, gT_hw, gR_hw, gN_hw, sI_hw, sL_hw, cV_hw, shS_hw, shC_hw, shL_hw, ← bt_def, em, ei, if_neg i10, show ¬ ((0 : Int32) = 1) by decide, show ¬ ((0 : Int32) = 2) by decide, show ¬ ((0 : Int32) = 3) by decide, show ¬ ((0 : Int32) = 4) by decide, if_false, if_true, e1, e2, grd_pos (show isB (0 : Int32) from Or.inl rfl), grd_pos (show isB (1 : Int32) from Or.inr rfl), e5, e6, e7, e9, e10, em_plain]
        exact a2.end _
    · have ei : cA_in (1 : Int32).toInt64 0 4 (hw h I L) = some (1, hw h I L) := by rw [show (1 : Int32) = nn 1 from rfl, ei]; rfl
      have em : ∀ H, m_isIn (1 : Int32) 0 4 H = some (1, H) := fun H => by rw [em_in]; rfl
      show B2 h g I0 J0 M0 (cA_tried 1 y (hw h I L)) (m_tried 1 y (hw g J M))
      by_cases zz : y = 0
      case neg =>
        simp only [cA_tried, m_tried, bnd_e, cal_s, onr_s, jon_e, gI_hw, gL_hw, gT_hw, gR_hw, gN_hw, sI_hw, sL_hw, cV_hw, shS_hw, shC_hw, shL_hw, ← bt_def, em, ei, if_neg i10, show ¬ ((1 : Int32) = 0) by decide, show ¬ ((1 : Int32) = 2) by decide, show ¬ ((1 : Int32) = 3) by decide, show ¬ ((1 : Int32) = 4) by decide, if_false, if_true, if_neg zz]
        exact a.end _
      case pos =>
        have sA := s1.fl1 y
        obtain ⟨I5, L5, e5, e6, f5⟩ := ec_tr (I2 := (u2 (u2 I1 25 7 1) 25 8 y)) (L := L) W ((f1.tr (frA.u _ (by omega))).tr (frA.u _ (by omega))) sA ws
        have fJ : frB J1 (u2 (u2 (u2 (u2 J1 0 64 0) 0 66 0) 0 67 (-1)) 0 65 0) := (((frB.u0 _ _ (by omega)).tr (frB.u0 _ _ (by omega))).tr (frB.u0 _ _ (by omega))).tr (frB.u0 _ _ (by omega))
        have flJ : FlM (u2 (u2 (u2 (u2 J1 0 64 0) 0 66 0) 0 67 (-1)) 0 65 0) (1, y, 0) := by
          unfold FlM
          simp [u2_app]
          try decide
        have tJ : StM (u2 (u2 (u2 (u2 J1 0 64 0) 0 66 0) 0 67 (-1)) 0 65 0) 1 (zP K) S := t2.u0.u0.u0.u0
        have hJ : (u2 (u2 (u2 (u2 J1 0 64 0) 0 66 0) 0 67 (-1)) 0 65 0) 0 62 = 0 := by rw [u2_nk _ _ (by decide), u2_nk _ _ (by decide), u2_nk _ _ (by decide), u2_nk _ _ (by decide)]; exact h2
        obtain ⟨J6, e7, z7, f7, g7⟩ := em_tried1 (g := g) 5 0 (u2 (u2 (u2 (u2 J1 0 64 0) 0 66 0) 0 67 (-1)) 0 65 0) M FU (by omega) (by show _ < 1000; omega) (fun p hp => by omega)
        rw [nn0] at e7
        have f8 : frB (u2 (u2 (u2 (u2 J1 0 64 0) 0 66 0) 0 67 (-1)) 0 65 0) J6 := ⟨fun x h0 h1 => f7 x (by omega), fun k _ _ _ => by rw [f7 0 (by decide)], fun k hk => ⟨by rw [f7 29 (by decide)], by rw [f7 30 (by decide)], g7 k hk, by rw [f7 32 (by decide)]⟩, by rw [f7 33 (by decide)]⟩
        have t8 : StM J6 1 (zP K) (zr0 S) := ⟨fun p hp => by
          rw [f7 29 (by decide), f7 30 (by decide), f7 32 (by decide), show 5 * 1 + p = 5 + p by omega, z7 p (by omega)]
          have q := tJ.1 p hp
          exact ⟨q.1, rfl, q.2.2⟩, by rw [f7 33 (by decide)]; exact tJ.2⟩
        obtain ⟨J9, M9, e9, e10, f9, l9⟩ := em_tr (g := g) (M := M) V t ws ((f2.tr fJ).tr f8) (flJ.ne0 (f7 0 (by decide))) (by rw [f7 0 (by decide)]; exact hJ) t8 (show WS (zP K) (zr0 S) from ws)
        have a2 := a.to f5 (f9.tr (plI_fr J9)) l9
        subst zz
        simp only [cA_tried, m_tried, bnd_e, cal_s, onr_s, jon_e, gI_hw, gL_hw, gT_hw, gR_hw, gN_hw, sI_hw, sL_hw, cV_hw, shS_hw, shC_hw, shL_hw, ← bt_def, em, ei, if_neg i10, show ¬ ((1 : Int32) = 0) by decide, show ¬ ((1 : Int32) = 2) by decide, show ¬ ((1 : Int32) = 3) by decide, show ¬ ((1 : Int32) = 4) by decide, if_false, if_true, e1, e2, grd_pos (show isB (0 : Int32) from Or.inl rfl), grd_pos (show isB (1 : Int32) from Or.inr rfl), e5, e6, e7, e9, e10, em_plain]
        exact a2.end _
    · have ei : cA_in (2 : Int32).toInt64 0 4 (hw h I L) = some (1, hw h I L) := by rw [show (2 : Int32) = nn 2 from rfl, ei]; rfl
      have em : ∀ H, m_isIn (2 : Int32) 0 4 H = some (1, H) := fun H => by rw [em_in]; rfl
      show B2 h g I0 J0 M0 (cA_tried 2 y (hw h I L)) (m_tried 2 y (hw g J M))
      cases zz : zin y (zP K) with
      | false =>
        simp only [cA_tried, m_tried, bnd_e, cal_s, onr_s, jon_e, gI_hw, gL_hw, gT_hw, gR_hw, gN_hw, sI_hw, sL_hw, cV_hw, shS_hw, shC_hw, shL_hw, ← bt_def, em, if_neg i10, show ¬ ((2 : Int32) = 0) by decide, show ¬ ((2 : Int32) = 1) by decide, show ¬ ((2 : Int32) = 3) by decide, show ¬ ((2 : Int32) = 4) by decide, if_false, if_true, ec_isPerson W, em_isPerson V, zz, bI_f]
        exact a.end _
      | true =>
        have sA := s1.fl 2 y (by decide)
        have sA := sA.gone (y := ((1 : Int32) <<< (y &&& 31)))
        obtain ⟨I5, L5, e5, e6, f5⟩ := ec_tr (I2 := (u2 (u2 (u2 I1 25 7 2) 25 8 y) 25 9 ((1 : Int32) <<< (y &&& 31)))) (L := L) W (((f1.tr (frA.u _ (by omega))).tr (frA.u _ (by omega))).tr (frA.u _ (by omega))) sA ws
        have fJ : frB J1 (u2 (u2 (u2 (u2 J1 0 64 0) 0 66 ((1 : Int32) <<< (y &&& 31))) 0 67 (-1)) 0 65 0) := (((frB.u0 _ _ (by omega)).tr (frB.u0 _ _ (by omega))).tr (frB.u0 _ _ (by omega))).tr (frB.u0 _ _ (by omega))
        have flJ : FlM (u2 (u2 (u2 (u2 J1 0 64 0) 0 66 ((1 : Int32) <<< (y &&& 31))) 0 67 (-1)) 0 65 0) (2, y, ((1 : Int32) <<< (y &&& 31))) := by
          unfold FlM
          simp [u2_app]
          try decide
        have tJ : StM (u2 (u2 (u2 (u2 J1 0 64 0) 0 66 ((1 : Int32) <<< (y &&& 31))) 0 67 (-1)) 0 65 0) 1 (zP K) S := t2.u0.u0.u0.u0
        have hJ : (u2 (u2 (u2 (u2 J1 0 64 0) 0 66 ((1 : Int32) <<< (y &&& 31))) 0 67 (-1)) 0 65 0) 0 62 = 0 := by rw [u2_nk _ _ (by decide), u2_nk _ _ (by decide), u2_nk _ _ (by decide), u2_nk _ _ (by decide)]; exact h2
        have e7 : ∀ k, m_tried_115 2 k FU 0 (hw g (u2 (u2 (u2 (u2 J1 0 64 0) 0 66 ((1 : Int32) <<< (y &&& 31))) 0 67 (-1)) 0 65 0) M) = k (hw g (u2 (u2 (u2 (u2 J1 0 64 0) 0 66 ((1 : Int32) <<< (y &&& 31))) 0 67 (-1)) 0 65 0) M) := fun k => by
          rw [show FU = 999 + 1 from rfl, m_tried_115, if_neg (by decide), if_neg (by decide)]
        obtain ⟨J9, M9, e9, e10, f9, l9⟩ := em_tr (g := g) (M := M) V t ws (f2.tr fJ) flJ hJ tJ ws
        have a2 := a.to f5 (f9.tr (plI_fr J9)) l9
        simp only [cA_tried, m_tried, bnd_e, cal_s, onr_s, jon_e, gI_hw, gL_hw, gT_hw, gR_hw, gN_hw, sI_hw, sL_hw, cV_hw, shS_hw, shC_hw, shL_hw, ← bt_def, em, ec_isPerson W, em_isPerson V, if_neg i10, show ¬ ((2 : Int32) = 0) by decide, show ¬ ((2 : Int32) = 1) by decide, show ¬ ((2 : Int32) = 3) by decide, show ¬ ((2 : Int32) = 4) by decide, if_false, if_true, zz, bI_t, e1, e2, grd_pos (show isB (0 : Int32) from Or.inl rfl), grd_pos (show isB (1 : Int32) from Or.inr rfl), e5, e6, e7, e9, e10, em_plain]
        exact a2.end _
    · have ei : cA_in (3 : Int32).toInt64 0 4 (hw h I L) = some (1, hw h I L) := by rw [show (3 : Int32) = nn 3 from rfl, ei]; rfl
      have em : ∀ H, m_isIn (3 : Int32) 0 4 H = some (1, H) := fun H => by rw [em_in]; rfl
      show B2 h g I0 J0 M0 (cA_tried 3 y (hw h I L)) (m_tried 3 y (hw g J M))
      cases zz : zin y (zQ K) with
      | false =>
        simp only [cA_tried, m_tried, bnd_e, cal_s, onr_s, jon_e, gI_hw, gL_hw, gT_hw, gR_hw, gN_hw, sI_hw, sL_hw, cV_hw, shS_hw, shC_hw, shL_hw, ← bt_def, em, if_neg i10, show ¬ ((3 : Int32) = 0) by decide, show ¬ ((3 : Int32) = 1) by decide, show ¬ ((3 : Int32) = 2) by decide, show ¬ ((3 : Int32) = 4) by decide, if_false, if_true, ec_isQuestion W, em_isQuestion V, zz, bI_f]
        exact a.end _
      | true =>
        have sA := s1.fl 3 y (by decide)
        obtain ⟨I5, L5, e5, e6, f5⟩ := ec_tr (I2 := (u2 (u2 I1 25 7 3) 25 8 y)) (L := L) W ((f1.tr (frA.u _ (by omega))).tr (frA.u _ (by omega))) sA ws
        have fJ : frB J1 (u2 (u2 (u2 (u2 J1 0 64 0) 0 66 0) 0 67 y) 0 65 0) := (((frB.u0 _ _ (by omega)).tr (frB.u0 _ _ (by omega))).tr (frB.u0 _ _ (by omega))).tr (frB.u0 _ _ (by omega))
        have flJ : FlM (u2 (u2 (u2 (u2 J1 0 64 0) 0 66 0) 0 67 y) 0 65 0) (3, y, 0) := by
          unfold FlM
          simp [u2_app]
          try decide
        have tJ : StM (u2 (u2 (u2 (u2 J1 0 64 0) 0 66 0) 0 67 y) 0 65 0) 1 (zP K) S := t2.u0.u0.u0.u0
        have hJ : (u2 (u2 (u2 (u2 J1 0 64 0) 0 66 0) 0 67 y) 0 65 0) 0 62 = 0 := by rw [u2_nk _ _ (by decide), u2_nk _ _ (by decide), u2_nk _ _ (by decide), u2_nk _ _ (by decide)]; exact h2
        have e7 : ∀ k, m_tried_115 3 k FU 0 (hw g (u2 (u2 (u2 (u2 J1 0 64 0) 0 66 0) 0 67 y) 0 65 0) M) = k (hw g (u2 (u2 (u2 (u2 J1 0 64 0) 0 66 0) 0 67 y) 0 65 0) M) := fun k => by
          rw [show FU = 999 + 1 from rfl, m_tried_115, if_neg (by decide), if_neg (by decide)]
        obtain ⟨J9, M9, e9, e10, f9, l9⟩ := em_tr (g := g) (M := M) V t ws (f2.tr fJ) flJ hJ tJ ws
        have a2 := a.to f5 (f9.tr (plI_fr J9)) l9
        simp only [cA_tried, m_tried, bnd_e, cal_s, onr_s, jon_e, gI_hw, gL_hw, gT_hw, gR_hw, gN_hw, sI_hw, sL_hw, cV_hw, shS_hw, shC_hw, shL_hw, ← bt_def, em, ec_isQuestion W, em_isQuestion V, if_neg i10, show ¬ ((3 : Int32) = 0) by decide, show ¬ ((3 : Int32) = 1) by decide, show ¬ ((3 : Int32) = 2) by decide, show ¬ ((3 : Int32) = 4) by decide, if_false, if_true, zz, bI_t, e1, e2, grd_pos (show isB (0 : Int32) from Or.inl rfl), grd_pos (show isB (1 : Int32) from Or.inr rfl), e5, e6, e7, e9, e10, em_plain]
        exact a2.end _
    · have ei : cA_in (4 : Int32).toInt64 0 4 (hw h I L) = some (1, hw h I L) := by rw [show (4 : Int32) = nn 4 from rfl, ei]; rfl
      have em : ∀ H, m_isIn (4 : Int32) 0 4 H = some (1, H) := fun H => by rw [em_in]; rfl
      show B2 h g I0 J0 M0 (cA_tried 4 y (hw h I L)) (m_tried 4 y (hw g J M))
      by_cases zz : y = 0
      case neg =>
        simp only [cA_tried, m_tried, bnd_e, cal_s, onr_s, jon_e, gI_hw, gL_hw, gT_hw, gR_hw, gN_hw, sI_hw, sL_hw, cV_hw, shS_hw, shC_hw, shL_hw, ← bt_def, em, ei, if_neg i10, show ¬ ((4 : Int32) = 0) by decide, show ¬ ((4 : Int32) = 1) by decide, show ¬ ((4 : Int32) = 2) by decide, show ¬ ((4 : Int32) = 3) by decide, if_false, if_true, if_neg zz]
        exact a.end _
      case pos =>
        have sA := s1.fl 4 y (by decide)
        obtain ⟨I5, L5, e5, e6, f5⟩ := ec_tr (I2 := (u2 (u2 I1 25 7 4) 25 8 y)) (L := L) W ((f1.tr (frA.u _ (by omega))).tr (frA.u _ (by omega))) sA ws
        have fJ : frB J1 (u2 (u2 (u2 (u2 J1 0 64 0) 0 66 0) 0 67 (-1)) 0 65 1) := (((frB.u0 _ _ (by omega)).tr (frB.u0 _ _ (by omega))).tr (frB.u0 _ _ (by omega))).tr (frB.u0 _ _ (by omega))
        have flJ : FlM (u2 (u2 (u2 (u2 J1 0 64 0) 0 66 0) 0 67 (-1)) 0 65 1) (4, y, 0) := by
          unfold FlM
          simp [u2_app]
          try decide
        have tJ : StM (u2 (u2 (u2 (u2 J1 0 64 0) 0 66 0) 0 67 (-1)) 0 65 1) 1 (zP K) S := t2.u0.u0.u0.u0
        have hJ : (u2 (u2 (u2 (u2 J1 0 64 0) 0 66 0) 0 67 (-1)) 0 65 1) 0 62 = 0 := by rw [u2_nk _ _ (by decide), u2_nk _ _ (by decide), u2_nk _ _ (by decide), u2_nk _ _ (by decide)]; exact h2
        have e7 : ∀ k, m_tried_115 4 k FU 0 (hw g (u2 (u2 (u2 (u2 J1 0 64 0) 0 66 0) 0 67 (-1)) 0 65 1) M) = k (hw g (u2 (u2 (u2 (u2 J1 0 64 0) 0 66 0) 0 67 (-1)) 0 65 1) M) := fun k => by
          rw [show FU = 999 + 1 from rfl, m_tried_115, if_neg (by decide), if_neg (by decide)]
        obtain ⟨J9, M9, e9, e10, f9, l9⟩ := em_tr (g := g) (M := M) V t ws (f2.tr fJ) flJ hJ tJ ws
        have a2 := a.to f5 (f9.tr (plI_fr J9)) l9
        subst zz
        simp only [cA_tried, m_tried, bnd_e, cal_s, onr_s, jon_e, gI_hw, gL_hw, gT_hw, gR_hw, gN_hw, sI_hw, sL_hw, cV_hw, shS_hw, shC_hw, shL_hw, ← bt_def, em, ei, if_neg i10, show ¬ ((4 : Int32) = 0) by decide, show ¬ ((4 : Int32) = 1) by decide, show ¬ ((4 : Int32) = 2) by decide, show ¬ ((4 : Int32) = 3) by decide, if_false, if_true, e1, e2, grd_pos (show isB (0 : Int32) from Or.inl rfl), grd_pos (show isB (1 : Int32) from Or.inr rfl), e5, e6, e7, e9, e10, em_plain]
        exact a2.end _
end B7
