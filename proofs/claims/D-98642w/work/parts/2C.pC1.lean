set_option maxRecDepth 100000
/-! PURE LEVEL C1: the constructors, run -/
def h00 : HP := ((0, 0), fun _ => (0, 0), fun _ _ => 0, fun _ _ => 0, fun _ _ => none)
def hA0 : HP := sA h00 (2, 0) 24
def hF : HP := match icA_init hA0 with
  | some r => r.2
  | none => h00
theorem hF_e : icA_init hA0 = some ((), hF) := by
  have : (icA_init hA0).isSome = true := by decide +kernel
  unfold hF
  match icA_init hA0, this with
  | some r, _ => rfl
theorem hF_N : gN hF = 54 ∧ gS hF ≤ 2000 := by decide +kernel
theorem hF_T : ∀ x : Fin 54, gT hF x.val = cT x.val := by decide +kernel
theorem hF_R : ∀ x : Fin 54, ∀ k : Fin 24, cRs x.val k.val = none ∨ gR hF x.val k.val = cRs x.val k.val := by decide +kernel
theorem cRs_b {a k b : Nat} (e : cRs a k = some b) : a < 54 ∧ k < 24 := by
  have c0 : ∀ {k b : Nat}, cR0 k = some b → k < 24 := by
    intro k b e
    unfold cR0 at e
    split at e <;> first | omega | (cases e)
  have cs : ∀ {s k b : Nat}, cRS s k = some b → k < 24 := by
    intro s k b e
    unfold cRS at e
    split at e <;> first | omega | (cases e)
  unfold cRs at e
  split at e
  · exact ⟨by decide, c0 e⟩
  · split at e
    · omega
    · cases e
  · split at e <;> first | omega | (cases e)
  · exact ⟨by decide, cs e⟩
  · exact ⟨by decide, cs e⟩
  · exact ⟨by decide, cs e⟩
  · split at e <;> first | omega | (cases e)
  · split at e
    · omega
    · cases e
  · exact ⟨by decide, cs e⟩
  · exact ⟨by decide, cs e⟩
  · cases e
theorem hF_r : gR hF 0 6 = some 3 ∧ (gR hF 3 0 = some 4 ∧ gR hF 3 1 = some 6 ∧ gR hF 3 2 = some 8 ∧ gR hF 3 3 = some 10 ∧ gR hF 3 4 = some 11 ∧ gR hF 3 5 = some 12 ∧ gR hF 3 6 = some 13) ∧ (gR hF 4 1 = some 5 ∧ gR hF 6 1 = some 7 ∧ gR hF 8 1 = some 9) ∧ (gR hF 13 0 = none ∧ gR hF 13 1 = none) ∧ ∀ i : Fin 20, gR hF 35 i.val = none := by decide +kernel
theorem hF_i : (gI hF 4 2 = 0 ∧ gI hF 6 2 = 0 ∧ gI hF 8 2 = 0) ∧ (gI hF 3 7 = 0 ∧ gI hF 3 8 = 9 ∧ gI hF 3 9 = 0 ∧ gI hF 3 10 = 0) ∧ (gI hF 20 4 = 0 ∧ gI hF 20 7 = -1 ∧ gI hF 20 9 = 0 ∧ gI hF 20 5 = 0 ∧ gI hF 20 6 = 0) ∧ gI hF 41 2 = 0 ∧ gI hF 0 23 = -1 ∧ gI hF 0 4 = 0 ∧ gI hF 0 14 = 0 ∧ gI hF 0 1 = 0 ∧ gI hF 0 2 = 0 ∧ gI hF 0 3 = -1 := by decide +kernel
def hB0 : HP := sA h00 (1, 0) 81
def hG : HP := match ikX10_init hB0 with
  | some r => r.2
  | none => h00
theorem hG_e : ikX10_init hB0 = some ((), hG) := by
  have : (ikX10_init hB0).isSome = true := by decide +kernel
  unfold hG
  match ikX10_init hB0, this with
  | some r, _ => rfl
theorem hG_N : gN hG = 42 ∧ gS hG ≤ 5000 := by decide +kernel
theorem hG_T : (gT hG 0).1 = 1 ∧ ∀ x : Fin 42, x.val = 0 ∨ gT hG x.val = mT x.val := by decide +kernel
theorem hG_R : ∀ k : Fin 81, gR hG 0 k.val = mR0 k.val := by decide +kernel
theorem hG_i : (gI hG 0 12 = 0 ∧ gI hG 0 13 = 0 ∧ gI hG 0 14 = 0 ∧ gI hG 0 15 = 0 ∧ gI hG 0 16 = 0) ∧ (gI hG 4 0 = 9 ∧ gI hG 4 1 = 0) ∧ (gI hG 19 0 = 0 ∧ gI hG 19 1 = 0) ∧ gI hG 33 0 = 0 ∧ gI hG 0 60 = 0 ∧ gL hG 0 61 = 0 ∧ gI hG 0 71 = 0 ∧ gI hG 0 72 = -1 ∧ gI hG 0 75 = 0 ∧ gI hG 0 78 = 0 ∧ gI hG 0 1 = 0 ∧ gI hG 0 4 = 0 ∧ gI hG 0 5 = -1 := by decide +kernel
theorem hG_w : ∀ i : Fin 124, gI hG 2 i.val = wl.getD i.val 0 := by decide +kernel
/-- the component as it is made, its types cut to its own cells -/
def cutT (F : HP) : HP := (F.1, fun x => if x < 54 then gT F x else (0, 0), gI F, gL F, gR F)
theorem cut_R {F : HP} (FR : ∀ x : Fin 54, ∀ k : Fin 24, cRs x.val k.val = none ∨ gR F x.val k.val = cRs x.val k.val) (a k : Nat) : gR (cV (cutT F)) a k = gR F a k := by
  show (match cRs a k with | some b => some b | none => gR F a k) = gR F a k
  cases e : cRs a k with
  | none => rfl
  | some b =>
    have ⟨h1, h2⟩ := cRs_b e
    rcases FR ⟨a, h1⟩ ⟨k, h2⟩ with y | y
    · simp only [] at y; rw [y] at e; cases e
    · simp only [] at y; rw [y, e]
theorem cut_T {F : HP} (FT : ∀ x : Fin 54, gT F x.val = cT x.val) (x : Nat) : gT (cV (cutT F)) x = if x < 54 then gT F x else (0, 0) := by
  show (if x < 54 then cT x else (if x < 54 then gT F x else (0, 0))) = _
  by_cases z : x < 54
  · rw [if_pos z, if_pos z]; exact (FT ⟨x, z⟩).symm
  · rw [if_neg z, if_neg z]
theorem Inv0g {F G : HP} (FN : gN F = 54) (FT : ∀ x : Fin 54, gT F x.val = cT x.val) (FR : ∀ x : Fin 54, ∀ k : Fin 24, cRs x.val k.val = none ∨ gR F x.val k.val = cRs x.val k.val) (Fr : gR F 0 6 = some 3 ∧ (gR F 3 0 = some 4 ∧ gR F 3 1 = some 6 ∧ gR F 3 2 = some 8 ∧ gR F 3 3 = some 10 ∧ gR F 3 4 = some 11 ∧ gR F 3 5 = some 12 ∧ gR F 3 6 = some 13) ∧ (gR F 4 1 = some 5 ∧ gR F 6 1 = some 7 ∧ gR F 8 1 = some 9) ∧ (gR F 13 0 = none ∧ gR F 13 1 = none) ∧ ∀ i : Fin 20, gR F 35 i.val = none) (Fi : (gI F 4 2 = 0 ∧ gI F 6 2 = 0 ∧ gI F 8 2 = 0) ∧ (gI F 3 7 = 0 ∧ gI F 3 8 = 9 ∧ gI F 3 9 = 0 ∧ gI F 3 10 = 0) ∧ (gI F 20 4 = 0 ∧ gI F 20 7 = -1 ∧ gI F 20 9 = 0 ∧ gI F 20 5 = 0 ∧ gI F 20 6 = 0) ∧ gI F 41 2 = 0 ∧ gI F 0 23 = -1 ∧ gI F 0 4 = 0 ∧ gI F 0 14 = 0 ∧ gI F 0 1 = 0 ∧ gI F 0 2 = 0 ∧ gI F 0 3 = -1) (Gi : (gI G 0 12 = 0 ∧ gI G 0 13 = 0 ∧ gI G 0 14 = 0 ∧ gI G 0 15 = 0 ∧ gI G 0 16 = 0) ∧ (gI G 4 0 = 9 ∧ gI G 4 1 = 0) ∧ (gI G 19 0 = 0 ∧ gI G 19 1 = 0) ∧ gI G 33 0 = 0 ∧ gI G 0 60 = 0 ∧ gL G 0 61 = 0 ∧ gI G 0 71 = 0 ∧ gI G 0 72 = -1 ∧ gI G 0 75 = 0 ∧ gI G 0 78 = 0 ∧ gI G 0 1 = 0 ∧ gI G 0 4 = 0 ∧ gI G 0 5 = -1) (Gw : ∀ i : Fin 124, gI G 2 i.val = wl.getD i.val 0) : Inv (cutT F) (gI F) (gI G) (gL G) := by
  obtain ⟨r06, r3, ⟨r4, r6, r8⟩, ⟨r130, r131⟩, r35⟩ := Fr
  obtain ⟨⟨i4, i6, i8⟩, ⟨i37, i38, i39, i310⟩, ⟨i204, i207, i209, i205, i206⟩, i41, i023, i04, i014, i01, i02, i03⟩ := Fi
  obtain ⟨⟨j12, j13, j14, j15, j16⟩, ⟨j40, j41⟩, ⟨j190, j191⟩, j33, j60, m61, j71, j72, j75, j78, j01, j04, j05⟩ := Gi
  have shp : Shp (cutT F) := by
    refine ⟨by show 54 ≤ gN F; rw [FN]; exact Nat.le_refl _, fun x hx => ?_⟩
    have : gN (cutT F) = 54 := FN
    show (if x < 54 then gT F x else (0, 0)).1 = 0
    rw [if_neg (by omega)]
  have ty : ∀ x, x < 54 → gT (cV (cutT F)) x = cT x := fun x hx => if_pos hx
  refine ⟨3, K0, fun _ _ => 0, gI F 20 8, (fun _ => 0, fun _ => 0, fun _ => 0, fun _ => 0, 0), 0, 0, fun _ => 0, fun _ _ => 0, 0, -1, 0, fun _ => ((fun _ => 0, fun _ => 0, fun _ => 0, fun _ => 0, 0), 0, 0), false, ((fun _ => 0, fun _ => 0, fun _ => 0, fun _ => 0, 0), 0, 0), 0, fun _ => 0, ⟨⟨⟨⟨?_, ?_, WK0⟩, ⟨fun p hp => absurd hp (Nat.not_lt_zero p), i204, i207, rfl, i209⟩⟩, ⟨⟨⟨⟨j12, j13, j14, j15, j16⟩, ⟨j40, j41⟩, fun k hk => absurd hk (Nat.not_lt_zero k), fun k hk => absurd hk (Nat.not_lt_zero k), fun k hk => absurd hk (Nat.not_lt_zero k), fun k hk => absurd hk (Nat.not_lt_zero k), fun j hj => ?_⟩, WK0⟩, ⟨fun p hp => absurd hp (Nat.not_lt_zero p), j33⟩⟩, fun p hp => absurd hp (Nat.not_lt_zero p)⟩, i205, j60, i206, m61, by decide⟩, ⟨⟨i41, fun k hk => absurd hk (Nat.not_lt_zero k)⟩, ⟨j71, fun k hk => absurd hk (Nat.not_lt_zero k)⟩, ⟨by omega, fun k hk => absurd hk (Nat.not_lt_zero k)⟩, i023, j72, Or.inl rfl⟩, ⟨⟨i04, by omega, fun i hi => absurd hi (Nat.not_lt_zero i), fun i hi b e => ?_, fun i j hi hj hij b e e' => ?_⟩, j75, fun i hi => absurd hi (Nat.not_lt_zero i)⟩, ⟨i014, j78, fun e => Bool.noConfusion e⟩, ⟨i01, j01, ⟨by omega, fun i hi => Gw ⟨i, hi⟩⟩, fun i hi => absurd hi (Nat.not_lt_zero i)⟩, ⟨by rw [i02, j04], by rw [i03, j05]⟩, shp⟩
  · rw [cut_R FR]; exact r06
  · refine ⟨⟨ty 3 (by decide), ⟨by rw [cut_R FR]; exact r3.1, by rw [cut_R FR]; exact r3.2.1, by rw [cut_R FR]; exact r3.2.2.1, by rw [cut_R FR]; exact r3.2.2.2.1, by rw [cut_R FR]; exact r3.2.2.2.2.1, by rw [cut_R FR]; exact r3.2.2.2.2.2.1, by rw [cut_R FR]; exact r3.2.2.2.2.2.2⟩, ty 10 (by decide), ty 11 (by decide), ty 12 (by decide), ty 13 (by decide)⟩, ⟨⟨ty 4 (by decide), by rw [cut_R FR]; exact r4, by rw [ty 5 (by decide)]; rfl⟩, ⟨ty 6 (by decide), by rw [cut_R FR]; exact r6, by rw [ty 7 (by decide)]; rfl⟩, ⟨ty 8 (by decide), by rw [cut_R FR]; exact r8, by rw [ty 9 (by decide)]; rfl⟩⟩, ⟨by rw [ty 5 (by decide)]; rfl, by rw [ty 7 (by decide)]; rfl, by rw [ty 9 (by decide)]; rfl⟩, ⟨i4, i6, i8⟩, ⟨i37, i38, i39, i310⟩, fun k hk => absurd hk (Nat.not_lt_zero k), fun k hk => absurd hk (Nat.not_lt_zero k), fun k hk => absurd hk (Nat.not_lt_zero k), fun k hk => absurd hk (Nat.not_lt_zero k), fun j hj => ?_⟩
    show gR (cV (cutT F)) 13 j = none
    rw [cut_R FR]
    rcases (show j = 0 ∨ j = 1 by omega) with rfl | rfl
    · exact r130
    · exact r131
  · show gI G 19 j = 0
    rcases (show j = 0 ∨ j = 1 by omega) with rfl | rfl
    · exact j190
    · exact j191
  · rw [cut_R FR, r35 ⟨i, hi⟩] at e; cases e
  · rw [cut_R FR, r35 ⟨i, hi⟩] at e; cases e
theorem Inv0 : Inv (cutT hF) (gI hF) (gI hG) (gL hG) := Inv0g hF_N.1 hF_T hF_R hF_r hF_i hG_i hG_w
