/-! PURE LEVEL 48: keepNow, whole -/
section P7
variable {h : HP} {I : Nat → Nat → Int32} {L : Nat → Nat → Int64}
def kNx (h2 : HP) : Option (Unit × HP) := grd (inb (gI h2 0 4) 20) (if gR (cV h2) 35 ((gI h2 0 4)).toNatClampNeg = none then (grd (54 ≤ gN h2) (bnd (gN h2) (fun b4 => bnd (sA h2 (6, 0) 11) (fun h5 => cal (cS_init b4 0 h5) (fun r6 h7 => grd ((gT (cV h7) b4).1 = 6) (grd (inb (gI h2 0 4) 20) (bnd (sR h7 35 ((gI h2 0 4)).toNatClampNeg (some b4)) (fun h8 => grd (inb (gI h8 0 4) 20) (onr (gR (cV h8) 35 ((gI h8 0 4)).toNatClampNeg) (fun b10 => grd (shS (cV h8) b10) (cal (cS_become b10 20 h8) (fun r11 h12 => bnd (sI h12 0 4 ((gI h12 0 4) + (1 : Int32))) (fun h14 => some ((), h14)))))))))))))) else (grd (inb (gI h2 0 4) 20) (onr (gR (cV h2) 35 ((gI h2 0 4)).toNatClampNeg) (fun b17 => grd (shS (cV h2) b17) (cal (cS_become b17 20 h2) (fun r18 h19 => bnd (sI h19 0 4 ((gI h19 0 4) + (1 : Int32))) (fun h21 => some ((), h21))))))))
theorem keepNow_e (h : HP) : cA_keepNow h = jon kNx (fun j1 => if (gI h 0 4) = (20 : Int32) then (grd (inb (0 : Int32) 20) (onr (gR (cV h) 35 ((0 : Int32)).toNatClampNeg) (fun b24 => bnd (1 : Int32) (fun x25 => cA_keepNow_18 b24 (fun (h30 : HP) => grd ((gT (cV h30) b24).1 = 6) (grd (inb (19 : Int32) 20) (bnd (sR h30 35 ((19 : Int32)).toNatClampNeg (some b24)) (fun h31 => bnd (sI h31 0 4 ((gI h31 0 4) - (1 : Int32))) (fun h33 => j1 h33))))) FU x25 h)))) else (j1 h)) := by
  delta cA_keepNow kNx
  exact Eq.refl _
theorem ec_kT {P kn b : Nat} {U : Nat → R3} {w : Int32} {X : R3} (hP : P ≤ 5) (hk : kn < 20) (q : KpC h I P kn U) (hb : gR (cV h) 35 kn = some b) (s : StC I 20 P (-1, w, 0) X.1) (e5 : I 20 5 = X.2.1) (e6 : I 20 6 = X.2.2) : ∃ I', cal (cS_become b 20 (hw h I L)) (fun _ h12 => bnd (sI h12 0 4 ((gI h12 0 4) + (1 : Int32))) (fun h14 => some ((), h14))) = some ((), hw h I' L) ∧ KpC h I' P (kn + 1) (fun i => if i < kn then U i else X) ∧ (∀ x, x ≠ 0 → (x < b ∨ b + 4 < x) → I' x = I x) ∧ ∀ k, k ≠ 4 → I' 0 k = I 0 k := by
  obtain ⟨k1, k2, k3, k4, k5⟩ := q
  obtain ⟨sb, b54⟩ := k4 kn hk b hb
  obtain ⟨I1, e1, s1, f1, v5, v6⟩ := ec_becomeS (L := L) hP sb (sh20 h) (by omega) s
  have o4 : I1 0 4 = nn kn := by rw [f1 0 (by omega)]; exact k1
  refine ⟨u2 I1 0 4 (nn (kn + 1)), ?_, ⟨u2_same _ _ _ _, by omega, fun i hi => ?_, k4, k5⟩, fun x h0 hx => by rw [u2_ne h0]; exact f1 x hx, fun k hk => by rw [u2_nk _ _ hk, f1 0 (by omega)]⟩
  · simp only [e1, bnd_e, cal_s, onr_s, jon_e, gI_hw, gL_hw, gT_hw, gR_hw, gN_hw, sI_hw, sL_hw, cV_hw, shS_hw, shC_hw, shL_hw, ← bt_def, o4, nn_succ]
  · by_cases z : i < kn
    · simp only [if_pos z]
      obtain ⟨b', b1, b2⟩ := k3 i z
      obtain ⟨sb', b54'⟩ := k4 i (by omega) b' b1
      have hne : b' ≠ b := fun e => k5 i kn (by omega) hk (by omega) b' b1 (by rw [e]; exact hb)
      have dj := shS_dj sb' sb hne
      exact ⟨b', b1, b2.cg (fun x h1 h2 => by rw [u2_ne (by omega)]; exact f1 x (by omega))⟩
    · simp only [if_neg z]
      have : i = kn := by omega
      subst this
      exact ⟨b, hb, w, s1.cgo (fun x h1 h2 => u2_ne (by omega)), by rw [u2_ne (by omega), v5]; exact e5, by rw [u2_ne (by omega), v6]; exact e6⟩
theorem Shp.lt {x : Nat} (sh : Shp h) (hx : 54 ≤ x) (ht : (gT (cV h) x).1 ≠ 0) : x < gN h := by
  rw [gTV hx] at ht
  apply Nat.lt_of_not_le
  intro e
  exact ht (sh.2 x e)
/-- what a call may do to the component's cells -/
def grw (h h' : HP) (I I' : Nat → Nat → Int32) : Prop := hx h h' ∧ gR (cV h') 42 = gR (cV h) 42 ∧ Shp h' ∧ gN h' ≤ gN h + 5 ∧ gS h' ≤ gS h + 40 ∧ (∀ x, x ≠ 0 → x < 54 → I' x = I x) ∧ (∀ x, x ≠ 0 → (gT (cV h) x).1 ≠ 0 → (gT (cV h) x).1 ≠ 6 → gT (cV h) x ≠ (100, 5) → I' x = I x) ∧ ∀ k, k ≠ 4 → I' 0 k = I 0 k
theorem ec_kS {P kn b : Nat} {U : Nat → R3} {w : Int32} {X : R3} (hP : P ≤ 5) (hk : kn < 20) (q : KpC h I P kn U) (s : StC I 20 P (-1, w, 0) X.1) (e5 : I 20 5 = X.2.1) (e6 : I 20 6 = X.2.2) (sh : Shp h) (hb : gR (cV h) 35 kn = some b) : ∃ h' I' L', kNx (hw h I L) = some ((), hw h' I' L') ∧ KpC h' I' P (kn + 1) (fun i => if i < kn then U i else X) ∧ grw h h' I I' := by
  have q' := q
  obtain ⟨k1, k2, k3, k4, k5⟩ := q'
  have i20 : inb (nn kn) 20 := nn_inb (by omega) (by omega)
  have hc : (nn kn).toNatClampNeg = kn := nn_clamp (by omega)
  obtain ⟨sb, b54⟩ := k4 kn hk b hb
  obtain ⟨I', e1, q1, f1, f0⟩ := ec_kT (L := L) hP hk q hb s e5 e6
  refine ⟨h, I', L, ?_, q1, hx.rfl h, rfl, sh, by omega, by omega, fun x h0 hx => f1 x h0 (by omega), fun x h0 t0 t6 t5 => f1 x h0 ?_, f0⟩
  · simp only [kNx, gI_hw, k1, grd_pos i20, hc, cV_hw, gR_hw, hb, onr_some, shS_hw, grd_pos sb, e1, reduceCtorEq, if_false]
  · obtain ⟨a1, -, a2, a3, a4, a5⟩ := sb
    have n0 : x ≠ b := fun e => t6 (by rw [e, a1])
    have n1 : x ≠ b + 1 := fun e => t5 (by rw [e, a2])
    have n2 : x ≠ b + 2 := fun e => t5 (by rw [e, a3])
    have n3 : x ≠ b + 3 := fun e => t5 (by rw [e, a4])
    have n4 : x ≠ b + 4 := fun e => t5 (by rw [e, a5])
    omega
theorem hN_f (I : Nat → Nat → Int32) (L : Nat → Nat → Int64) (kn : Nat) (sh : Shp h) : ∃ H, sR (alc (hw h I L) (gN h)) 35 kn (some (gN h)) = H ∧ (∀ x, gT H x = if x = gN h then (6, 0) else if gN h < x ∧ x ≤ gN h + 4 then (100, 5) else gT h x) ∧ (∀ x, (x < gN h ∨ gN h + 4 < x) → x ≠ 35 → gR H x = gR h x) ∧ (∀ x, (x < gN h ∨ gN h + 4 < x) → gI H x = I x) ∧ (∀ k, gR (cV H) 35 k = if k = kn then some (gN h) else gR (cV h) 35 k) ∧ hx h H ∧ shS (cV H) (gN h) ∧ gN H = gN h + 5 ∧ gS H = gS h + 31 := by
  have hn : gN (hw h I L) = gN h := gN_hw h I L
  have h54 := sh.1
  generalize hH : sR (alc (hw h I L) (gN h)) 35 kn (some (gN h)) = H
  have T : ∀ x, gT H x = if x = gN h then (6, 0) else if gN h < x ∧ x ≤ gN h + 4 then (100, 5) else gT h x := fun x => by rw [← hH, gT_sR', alc_T hn, gT_hw]
  have R : ∀ x, (x < gN h ∨ gN h + 4 < x) → x ≠ 35 → gR H x = gR h x := fun x h1 h2 => by rw [← hH, gR_sR', u2_ne h2, alc_R hn h1, gR_hw]
  have R35 : ∀ k, gR H 35 k = if k = kn then some (gN h) else gR h 35 k := fun k => by
    rw [← hH, gR_sR', u2_app]
    by_cases z : k = kn
    · rw [if_pos ⟨rfl, z⟩, if_pos z]
    · rw [if_neg (fun e => z e.2), if_neg z, alc_R hn (by omega), gR_hw]
  have Rn : gR H (gN h) = gR (alc (hw h I L) (gN h)) (gN h) := by rw [← hH, gR_sR', u2_ne (by omega)]
  have Ii : ∀ x, (x < gN h ∨ gN h + 4 < x) → gI H x = I x := fun x h1 => by rw [← hH, gI_sR', alc_I hn h1, gI_hw]
  have V35 : ∀ k, gR (cV H) 35 k = if k = kn then some (gN h) else gR (cV h) 35 k := fun k => R35 k
  have fx : hx h H := by
    refine ⟨fun x t => ?_, fun x t z0 z1 z2 => ?_⟩
    · by_cases z : x < 54
      · show (if x < 54 then cT x else gT H x) = (if x < 54 then cT x else gT h x)
        rw [if_pos z, if_pos z]
      · have := sh.lt (by omega) t
        rw [gTV (by omega), gTV (by omega), T, if_neg (by omega), if_neg (by omega)]
    · have : x < gN h := by
        by_cases z : x < 54
        · omega
        · exact sh.lt (by omega) t
      funext k
      show (match cRs x k with | some b => some b | none => gR H x k) = (match cRs x k with | some b => some b | none => gR h x k)
      rw [R x (by omega) z1]
  have sN : shS (cV H) (gN h) := by
    obtain ⟨r0, r1, r2, r3, r4⟩ := alc_Rn hn
    refine ⟨by rw [gTV h54, T, if_pos rfl], ?_, by rw [gTV (by omega), T, if_neg (by omega), if_pos (by omega)], by rw [gTV (by omega), T, if_neg (by omega), if_pos (by omega)], by rw [gTV (by omega), T, if_neg (by omega), if_pos (by omega)], by rw [gTV (by omega), T, if_neg (by omega), if_pos (by omega)]⟩
    rw [gRV h54, gRV h54, gRV h54, gRV h54, gRV h54, Rn]
    exact ⟨r0, r1, r2, r3, r4⟩
  obtain ⟨nN, nS⟩ := alc_N hn
  have gNH : gN H = gN h + 5 := by rw [← hH, gN_sR']; exact nN
  have gSH : gS H = gS h + 31 := by rw [← hH, gS_sR']; exact nS
  exact ⟨H, Eq.refl _, T, R, Ii, V35, fx, sN, gNH, gSH⟩
theorem ec_kN {P kn : Nat} {U : Nat → R3} {w : Int32} {X : R3} (hP : P ≤ 5) (hk : kn < 20) (q : KpC h I P kn U) (s : StC I 20 P (-1, w, 0) X.1) (e5 : I 20 5 = X.2.1) (e6 : I 20 6 = X.2.2) (sh : Shp h) (hb : gR (cV h) 35 kn = none) : ∃ h' I' L', kNx (hw h I L) = some ((), hw h' I' L') ∧ KpC h' I' P (kn + 1) (fun i => if i < kn then U i else X) ∧ grw h h' I I' := by
  have q' := q
  obtain ⟨k1, k2, k3, k4, k5⟩ := q'
  have i20 : inb (nn kn) 20 := nn_inb (by omega) (by omega)
  have hc : (nn kn).toNatClampNeg = kn := nn_clamp (by omega)
  have h54 := sh.1
  have hn : gN (hw h I L) = gN h := gN_hw h I L
  obtain ⟨H, hH, T, R, Ii, V35, fx, sN, gNH, gSH⟩ := hN_f I L kn sh
  have qH : KpC H (gI H) P kn U := by
    refine ⟨by rw [Ii 0 (by omega)]; exact k1, k2, fun i hi => ?_, fun i hi b e => ?_, fun i j hi hj hij b e e' => ?_⟩
    · obtain ⟨b, b1, b2⟩ := k3 i hi
      obtain ⟨sb, b54⟩ := k4 i (by omega) b b1
      have := sh.lt (x := b + 4) (by omega) (by rw [sb.2.2.2.2.2]; decide)
      exact ⟨b, by rw [V35, if_neg (by omega)]; exact b1, b2.cg (fun x h1 h2 => Ii x (by omega))⟩
    · rw [V35] at e
      by_cases z : i = kn
      · rw [if_pos z] at e
        cases e
        exact ⟨sN, h54⟩
      · rw [if_neg z] at e
        obtain ⟨sb, b54⟩ := k4 i hi b e
        exact ⟨shS_hx fx sb, b54⟩
    · rw [V35] at e e'
      by_cases z : i = kn
      · rw [if_pos z] at e
        cases e
        rw [if_neg (by omega)] at e'
        obtain ⟨sb, b54⟩ := k4 j hj _ e'
        have := sh.lt b54 (by rw [sb.1]; decide)
        omega
      · rw [if_neg z] at e
        by_cases y : j = kn
        · rw [if_pos y] at e'
          cases e'
          obtain ⟨sb, b54⟩ := k4 i hi _ e
          have := sh.lt b54 (by rw [sb.1]; decide)
          omega
        · rw [if_neg y] at e'
          exact k5 i j hi hj hij b e e'
  have sH : StC (gI H) 20 P (-1, w, 0) X.1 := s.cgo (fun x h1 h2 => Ii x (by omega))
  have hbH : gR (cV H) 35 kn = some (gN h) := by rw [V35, if_pos rfl]
  obtain ⟨I', e1, q1, f1, f0⟩ := ec_kT (L := gL H) hP hk qH hbH sH (by rw [Ii 20 (by omega)]; exact e5) (by rw [Ii 20 (by omega)]; exact e6)
  rw [← hw_eta] at e1
  simp only [bnd_e] at e1
  have tA : (gT (cV (alc (hw h I L) (gN h))) (gN h)).1 = 6 := by rw [gTV h54, alc_T hn, if_pos rfl]
  have gI0 : gI H 0 4 = nn kn := qH.1
  refine ⟨H, I', gL H, ?_, q1, fx, ?_, ⟨by omega, fun x hx => ?_⟩, by omega, by omega, fun x h0 hx => by rw [f1 x h0 (by omega), Ii x (by omega)], fun x h0 t0 t6 t5 => ?_, fun k hk => by rw [f0 k hk, Ii 0 (by omega)]⟩
  · simp only [kNx, gI_hw, k1, grd_pos i20, hc, cV_hw, gR_hw, hb, if_true, gN_hw, grd_pos h54, bnd_e, ec_init hn h54, cal_s, grd_pos tA, hH, gI0, hbH, onr_some, grd_pos sN, e1]
  · funext k
    show (match cRs 42 k with | some b => some b | none => gR H 42 k) = (match cRs 42 k with | some b => some b | none => gR h 42 k)
    rw [R 42 (by omega) (by decide)]
  · rw [T, if_neg (by omega), if_neg (by omega)]; exact sh.2 x (by omega)
  · have : x < gN h := by
      by_cases z : x < 54
      · omega
      · exact sh.lt (by omega) t0
    rw [f1 x h0 (by omega), Ii x (by omega)]
theorem ec_kNx {P kn : Nat} {U : Nat → R3} {w : Int32} {X : R3} (hP : P ≤ 5) (hk : kn < 20) (q : KpC h I P kn U) (s : StC I 20 P (-1, w, 0) X.1) (e5 : I 20 5 = X.2.1) (e6 : I 20 6 = X.2.2) (sh : Shp h) : ∃ h' I' L', kNx (hw h I L) = some ((), hw h' I' L') ∧ KpC h' I' P (kn + 1) (fun i => if i < kn then U i else X) ∧ grw h h' I I' := by
  cases hb : gR (cV h) 35 kn with
  | some b => exact ec_kS hP hk q s e5 e6 sh hb
  | none => exact ec_kN hP hk q s e5 e6 sh hb
end P7
