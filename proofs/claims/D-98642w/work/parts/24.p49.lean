/-! PURE LEVEL 49: keepNow and remember, whole -/
def zkn (kn : Nat) : Nat := if kn = 20 then 20 else kn + 1
def zku (U : Nat → R3) (kn : Nat) (X : R3) (i : Nat) : R3 := if kn = 20 then (if i < 19 then U (i + 1) else X) else if i < kn then U i else X
section P8
variable {h g : HP} {I : Nat → Nat → Int32} {L : Nat → Nat → Int64}
theorem ec_keepNow {P kn : Nat} {U : Nat → R3} {w : Int32} {X : R3} (hP : P ≤ 5) (q : KpC h I P kn U) (s : StC I 20 P (-1, w, 0) X.1) (e5 : I 20 5 = X.2.1) (e6 : I 20 6 = X.2.2) (sh : Shp h) : ∃ h' I' L', cA_keepNow (hw h I L) = some ((), hw h' I' L') ∧ KpC h' I' P (zkn kn) (zku U kn X) ∧ grw h h' I I' := by
  by_cases z : kn = 20
  · have q' := q
    obtain ⟨k1, k2, k3, k4, k5⟩ := q'
    subst z
    have V : ∀ k, gR (cV h) 35 k = gR h 35 k := fun k => by
      show (match cRs 35 k with | some b => some b | none => gR h 35 k) = gR h 35 k
      exact Eq.refl _
    have t6 : ∀ k, k < 20 → ∃ b, gR h 35 k = some b ∧ (gT (cV h) b).1 = 6 := fun k hk => by
      obtain ⟨b, b1, -⟩ := k3 k hk
      exact ⟨b, by rw [← V]; exact b1, by rw [(k4 k hk b b1).1.1]⟩
    obtain ⟨b0, b1, b2⟩ := t6 0 (by omega)
    have lp := ec_keep18 (h := h) b0 I L 19 1 (fun k => gR h 35 k) FU (by omega) (by omega) (by show 19 < 1000; omega) (fun k h1 h2 => t6 k h2)
    rw [← hr_eta] at lp
    generalize hF : (fun j => if j = 19 then some b0 else if 1 ≤ j + 1 ∧ j + 1 < 20 then gR h 35 (j + 1) else gR h 35 j) = F
    have hF1 : ∀ j, j < 19 → F j = gR h 35 (j + 1) := fun j hj => by rw [← hF]; simp only []; rw [if_neg (by omega), if_pos (by omega)]
    have hF2 : F 19 = gR h 35 0 := by rw [← hF, b1]; rfl
    have hF3 : ∀ j, j < 20 → ∃ i, i < 20 ∧ F j = gR h 35 i ∧ (i = if j = 19 then 0 else j + 1) := fun j hj => by
      by_cases y : j = 19
      · exact ⟨0, by omega, by rw [y]; exact hF2, by rw [if_pos y]⟩
      · exact ⟨j + 1, by omega, hF1 j (by omega), by rw [if_neg y]⟩
    have q2 : KpC (hr h F) (u2 I 0 4 (nn 19)) P 19 (fun i => U (i + 1)) := by
      refine ⟨u2_same _ _ _ _, by omega, fun i hi => ?_, fun i hi b e => ?_, fun i j hi hj hij b e e' => ?_⟩
      · obtain ⟨b, c1, c2⟩ := k3 (i + 1) (by omega)
        obtain ⟨sb, b54⟩ := k4 (i + 1) (by omega) b c1
        exact ⟨b, by rw [hr_35, hF1 i hi, ← V]; exact c1, c2.cg (fun x h1 h2 => u2_ne (by omega))⟩
      · rw [hr_35] at e
        obtain ⟨i', hi', ei, -⟩ := hF3 i hi
        obtain ⟨sb, b54⟩ := k4 i' hi' b (by rw [V, ← ei]; exact e)
        exact ⟨shS_hx (hr_hx h F) sb, b54⟩
      · rw [hr_35] at e e'
        obtain ⟨i', hi', ei, xi⟩ := hF3 i hi
        obtain ⟨j', hj', ej, xj⟩ := hF3 j hj
        refine k5 i' j' hi' hj' ?_ b (by rw [V, ← ei]; exact e) (by rw [V, ← ej]; exact e')
        intro e0
        rw [xi, xj] at e0
        by_cases y1 : i = 19 <;> by_cases y2 : j = 19 <;> simp [y1, y2] at e0 <;> omega
    obtain ⟨h', I', L', e1, q3, f1, f2, f3, f4, f5, f6, f7, f8⟩ := ec_kNx (L := L) (X := X) hP (by omega) q2 (s.cgo (fun x h1 h2 => u2_ne (by omega))) (by rw [u2_ne (by decide)]; exact e5) (by rw [u2_ne (by decide)]; exact e6) (show Shp (hr h F) from sh)
    refine ⟨h', I', L', ?_, ?_, (hr_hx h F).tr f1, ?_, f3, f4, f5, fun x h0 hx => ?_, fun x h0 t0 t6 t5 => ?_, fun k hk => ?_⟩
    · rw [keepNow_e, jon_e]
      simp only [gI_hw, k1]
      rw [if_pos (show nn 20 = (20 : Int32) from rfl), grd_pos (show inb (0 : Int32) 20 by decide)]
      simp only [cV_hw, gR_hw, tn0, V, b1, onr_some, bnd_e]
      rw [show (1 : Int32) = nn 1 from rfl, lp]
      simp only [cV_hw, gT_hw, hr_T, grd_pos b2, grd_pos (show inb (19 : Int32) 20 by decide), show ((19 : Int32)).toNatClampNeg = 19 from rfl, hr_sR, gI_hw, sI_hw, k1, show nn 20 - nn 1 = nn 19 from rfl]
      rw [hF]
      exact e1
    · have : (fun i => if i < 19 then U (i + 1) else X) = zku U 20 X := by
        funext i; rw [zku, if_pos rfl]
      rw [← this]; exact q3
    · rw [f2]; exact hr_ne h F (by decide)
    · rw [f6 x h0 hx, u2_ne h0]
    · rw [f7 x h0 (by rw [hr_T]; exact t0) (by rw [hr_T]; exact t6) (by rw [hr_T]; exact t5), u2_ne h0]
    · rw [f8 k hk, u2_nk _ _ hk]
  · have hk : kn < 20 := by have := q.2.1; omega
    obtain ⟨h', I', L', e1, q3, f⟩ := ec_kNx (L := L) (X := X) hP hk q s e5 e6 sh
    refine ⟨h', I', L', ?_, ?_, f⟩
    · rw [keepNow_e, jon_e]
      simp only [gI_hw, q.1]
      rw [if_neg (show ¬ nn kn = (20 : Int32) by rw [show (20 : Int32) = nn 20 from rfl, nn_eq (by omega) (by omega)]; exact z)]
      exact e1
    · have : (fun i => if i < kn then U i else X) = zku U kn X := by
        funext i; rw [zku, if_neg z]
      rw [← this, zkn, if_neg z]; exact q3
def mNx (h2 : HP) : Option (Unit × HP) := cal (m_put 39 ((22 : Int32) * (gI h2 0 75)) h2) (fun r3 h4 => grd (inb (gI h4 0 75) 20) (bnd (sL h4 40 ((gI h4 0 75)).toNatClampNeg (gL h4 0 61)) (fun h5 => bnd (sI h5 0 75 ((gI h5 0 75) + (1 : Int32))) (fun h6 => some ((), h6)))))
theorem remember_e (h : HP) : m_remember h = jon mNx (fun j1 => if (gI h 0 75) = (20 : Int32) then (bnd (0 : Int32) (fun x7 => m_remember_11 (fun (h10 : HP) => bnd (0 : Int32) (fun x11 => m_remember_41 (fun (h14 : HP) => bnd (sI h14 0 75 ((gI h14 0 75) - (1 : Int32))) (fun h15 => j1 h15)) FU x11 h10)) FU x7 h)) else (j1 h)) := by
  delta m_remember mNx
  exact Eq.refl _
theorem em_r11 (M : Nat → Nat → Int64) : ∀ (j i : Nat) (J : Nat → Nat → Int32) (fuel : Nat), i + j = 418 → j < fuel → ∃ J', (∀ k, m_remember_11 k fuel (nn i) (hw g J M) = k (hw g J' M)) ∧ (∀ k, J' 39 k = if i ≤ k ∧ k < 418 then J 39 (k + 22) else J 39 k) ∧ ∀ x, x ≠ 39 → J' x = J x := by
  intro j
  induction j with
  | zero =>
    intro i J fuel hi hf
    obtain ⟨n, rfl⟩ : ∃ n, fuel = n + 1 := ⟨fuel - 1, by omega⟩
    have : (418 : Int32) ≤ nn i := nn_ple (n := 418) (by omega) (by omega)
    exact ⟨J, fun k => by rw [m_remember_11, if_pos this], fun k => by rw [if_neg (by omega)], fun _ _ => rfl⟩
  | succ j ih =>
    intro i J fuel hi hf
    obtain ⟨n, rfl⟩ : ∃ n, fuel = n + 1 := ⟨fuel - 1, by omega⟩
    have nle : ¬ (418 : Int32) ≤ nn i := nn_nle (n := 418) (by omega) (by omega)
    have a22 : nn i + 22 = nn (i + 22) := nn_add i 22
    obtain ⟨J2, e2, a2, f2⟩ := ih (i + 1) (u2 J 39 i (J 39 (i + 22))) n (by omega) (by omega)
    refine ⟨J2, fun k => ?_, fun k => ?_, fun x hx => by rw [f2 x hx, u2_ne hx]⟩
    · rw [m_remember_11, if_neg nle]
      simp only [bnd_e, cal_s, onr_s, jon_e, gI_hw, gL_hw, gT_hw, gR_hw, gN_hw, sI_hw, sL_hw, cV_hw, shS_hw, shC_hw, shL_hw, ← bt_def, a22, grd_pos (show inb (nn (i + 22)) 440 from nn_inb (by omega) (by omega)), grd_pos (show inb (nn i) 440 from nn_inb (by omega) (by omega)), nn_clamp (show i + 22 < 2147483648 by omega), nn_clamp (show i < 2147483648 by omega), nn_succ, e2]
    · rw [a2]
      by_cases z : k = i
      · rw [if_neg (by omega), if_pos (by omega), z, u2_same]
      · rw [u2_nk _ _ z]
        by_cases y : i + 1 ≤ k ∧ k < 418
        · rw [if_pos y, if_pos (by omega), u2_nk _ _ (by omega)]
        · rw [if_neg y, if_neg (by omega)]
theorem em_r41 (J : Nat → Nat → Int32) : ∀ (j i : Nat) (M : Nat → Nat → Int64) (fuel : Nat), i + j = 19 → j < fuel → ∃ M', (∀ k, m_remember_41 k fuel (nn i) (hw g J M) = k (hw g J M')) ∧ (∀ k, M' 40 k = if i ≤ k ∧ k < 19 then M 40 (k + 1) else M 40 k) ∧ ∀ x, x ≠ 40 → M' x = M x := by
  intro j
  induction j with
  | zero =>
    intro i M fuel hi hf
    obtain ⟨n, rfl⟩ : ∃ n, fuel = n + 1 := ⟨fuel - 1, by omega⟩
    have : (19 : Int32) ≤ nn i := nn_ple (n := 19) (by omega) (by omega)
    exact ⟨M, fun k => by rw [m_remember_41, if_pos this], fun k => by rw [if_neg (by omega)], fun _ _ => rfl⟩
  | succ j ih =>
    intro i M fuel hi hf
    obtain ⟨n, rfl⟩ : ∃ n, fuel = n + 1 := ⟨fuel - 1, by omega⟩
    have nle : ¬ (19 : Int32) ≤ nn i := nn_nle (n := 19) (by omega) (by omega)
    obtain ⟨M2, e2, a2, f2⟩ := ih (i + 1) (u2 M 40 i (M 40 (i + 1))) n (by omega) (by omega)
    refine ⟨M2, fun k => ?_, fun k => ?_, fun x hx => by rw [f2 x hx, u2_ne hx]⟩
    · rw [m_remember_41, if_neg nle]
      simp only [bnd_e, cal_s, onr_s, jon_e, gI_hw, gL_hw, gT_hw, gR_hw, gN_hw, sI_hw, sL_hw, cV_hw, shS_hw, shC_hw, shL_hw, ← bt_def, nn_succ, grd_pos (show inb (nn (i + 1)) 20 from nn_inb (by omega) (by omega)), grd_pos (show inb (nn i) 20 from nn_inb (by omega) (by omega)), nn_clamp (show i + 1 < 2147483648 by omega), nn_clamp (show i < 2147483648 by omega), e2]
    · rw [a2]
      by_cases z : k = i
      · rw [if_neg (by omega), if_pos (by omega), z, u2_same]
      · rw [u2_nk _ _ z]
        by_cases y : i + 1 ≤ k ∧ k < 19
        · rw [if_pos y, if_pos (by omega), u2_nk _ _ (by omega)]
        · rw [if_neg y, if_neg (by omega)]
def frR (J J' : Nat → Nat → Int32) (M M' : Nat → Nat → Int64) : Prop := (∀ x, x ≠ 0 → x ≠ 39 → J' x = J x) ∧ (∀ k, k ≠ 75 → J' 0 k = J 0 k) ∧ ∀ x, x ≠ 40 → M' x = M x
theorem em_mNx {P kn : Nat} {U : Nat → R3} {X : R3} {J : Nat → Nat → Int32} {M : Nat → Nat → Int64} (hP : P ≤ 5) (hk : kn < 20) (q : KpM J M P kn U) (s : StM J 0 P X.1) (e5 : J 0 60 = X.2.1) (e6 : M 0 61 = X.2.2.toInt64) (wx : WX P X) : ∃ J' M', mNx (hw g J M) = some ((), hw g J' M') ∧ KpM J' M' P (kn + 1) (fun i => if i < kn then U i else X) ∧ frR J J' M M' := by
  obtain ⟨k1, k2⟩ := q
  obtain ⟨J1, e1, s1, c1, f1⟩ := em_put (g := g) (M := M) (a := 39) (i := 22 * kn) rfl (show 22 * kn + 22 ≤ 440 by omega) (by decide) (by decide) hP s
  have e22 : (22 : Int32) * nn kn = nn (22 * kn) := nn_mul 22 kn
  have j0 : J1 0 = J 0 := f1 0 (by decide)
  have i20 : inb (nn kn) 20 := nn_inb (by omega) (by omega)
  refine ⟨u2 J1 0 75 (nn (kn + 1)), u2 M 40 kn (M 0 61), ?_, ⟨u2_same _ _ _ _, fun i hi => ?_⟩, fun x h0 h1 => by rw [u2_ne h0, f1 x h1], fun k hk => by rw [u2_nk _ _ hk, j0], fun x hx => u2_ne hx⟩
  · simp only [mNx, bnd_e, cal_s, onr_s, jon_e, gI_hw, gL_hw, gT_hw, gR_hw, gN_hw, sI_hw, sL_hw, cV_hw, shS_hw, shC_hw, shL_hw, ← bt_def, k1, e22, e1, j0, grd_pos i20, nn_clamp (show kn < 2147483648 by omega), nn_succ]
  · by_cases z : i < kn
    · simp only [if_pos z]
      obtain ⟨z1, z2, z3⟩ := k2 i z
      refine ⟨?_, by rw [u2_nk _ _ (by omega)]; exact z2, z3⟩
      unfold StMx
      rw [u2_ne (by decide)]
      refine ⟨fun p hp => ?_, by rw [c1 _ (by omega)]; exact z1.2.1, by rw [c1 _ (by omega)]; exact z1.2.2⟩
      rw [c1 _ (by omega), c1 _ (by omega), c1 _ (by omega), c1 _ (by omega)]; exact z1.1 p hp
    · simp only [if_neg z]
      have : i = kn := by omega
      subst this
      refine ⟨?_, by rw [u2_same]; exact e6, wx⟩
      unfold StMx
      rw [u2_ne (by decide)]
      have := s1 X.2.2
      rw [e5] at this; exact this
theorem em_remember {P kn : Nat} {U : Nat → R3} {X : R3} {J : Nat → Nat → Int32} {M : Nat → Nat → Int64} (hP : P ≤ 5) (hk : kn ≤ 20) (q : KpM J M P kn U) (s : StM J 0 P X.1) (e5 : J 0 60 = X.2.1) (e6 : M 0 61 = X.2.2.toInt64) (wx : WX P X) : ∃ J' M', m_remember (hw g J M) = some ((), hw g J' M') ∧ KpM J' M' P (zkn kn) (zku U kn X) ∧ frR J J' M M' := by
  by_cases z : kn = 20
  · subst z
    obtain ⟨k1, k2⟩ := q
    obtain ⟨J1, e1, a1, f1⟩ := em_r11 (g := g) M 418 0 J FU (by omega) (by show 418 < 1000; omega)
    obtain ⟨M1, e2, a2, f2⟩ := em_r41 (g := g) J1 19 0 M FU (by omega) (by show 19 < 1000; omega)
    rw [nn0] at e1 e2
    have q2 : KpM (u2 J1 0 75 (nn 19)) M1 P 19 (fun i => U (i + 1)) := by
      refine ⟨u2_same _ _ _ _, fun i hi => ?_⟩
      obtain ⟨z1, z2, z3⟩ := k2 (i + 1) (by omega)
      refine ⟨?_, by rw [a2, if_pos (by omega)]; exact z2, z3⟩
      have A : ∀ r, r < 22 → J1 39 (22 * i + r) = J 39 (22 * (i + 1) + r) := fun r hr => by
        rw [a1, if_pos (by omega), show 22 * i + r + 22 = 22 * (i + 1) + r by omega]
      unfold StMx
      rw [u2_ne (by decide)]
      refine ⟨fun p hp => ?_, by rw [A 20 (by omega)]; exact z1.2.1, by rw [A 21 (by omega)]; exact z1.2.2⟩
      rw [A p (by omega), show 22 * i + 5 + p = 22 * i + (5 + p) by omega, show 22 * i + 10 + p = 22 * i + (10 + p) by omega, show 22 * i + 15 + p = 22 * i + (15 + p) by omega, A (5 + p) (by omega), A (10 + p) (by omega), A (15 + p) (by omega), ← Nat.add_assoc, ← Nat.add_assoc, ← Nat.add_assoc]
      exact z1.1 p hp
    have s' : StM (u2 J1 0 75 (nn 19)) 0 P X.1 := by
      refine StM.u0 ?_
      unfold StM
      rw [f1 29 (by decide), f1 30 (by decide), f1 31 (by decide), f1 32 (by decide), f1 33 (by decide)]; exact s
    obtain ⟨J', M', e3, q3, g1, g2, g3⟩ := em_mNx (g := g) (X := X) hP (by omega) q2 s' (by rw [u2_nk _ _ (by decide), f1 0 (by decide)]; exact e5) (by rw [f2 0 (by decide)]; exact e6) wx
    refine ⟨J', M', ?_, ?_, fun x h0 h1 => by rw [g1 x h0 h1, u2_ne h0, f1 x h1], fun k hk => by rw [g2 k hk, u2_nk _ _ hk, f1 0 (by decide)], fun x hx => by rw [g3 x hx, f2 x hx]⟩
    · rw [remember_e, jon_e]
      simp only [gI_hw, k1]
      rw [if_pos (show nn 20 = (20 : Int32) from rfl)]
      simp only [bnd_e, e1, e2, gI_hw, sI_hw, f1 0 (by decide), k1, show nn 20 - (1 : Int32) = nn 19 from rfl]
      exact e3
    · have : (fun i => if i < 19 then U (i + 1) else X) = zku U 20 X := by
        funext i; rw [zku, if_pos rfl]
      rw [← this]; exact q3
  · obtain ⟨J', M', e3, q3, f⟩ := em_mNx (g := g) (X := X) hP (by omega) q s e5 e6 wx
    refine ⟨J', M', ?_, ?_, f⟩
    · rw [remember_e, jon_e]
      simp only [gI_hw, q.1]
      rw [if_neg (show ¬ nn kn = (20 : Int32) by rw [show (20 : Int32) = nn 20 from rfl, nn_eq (by omega) (by omega)]; exact z)]
      exact e3
    · have : (fun i => if i < kn then U i else X) = zku U kn X := by
        funext i; rw [zku, if_neg z]
      rw [← this, zkn, if_neg z]; exact q3
end P8
