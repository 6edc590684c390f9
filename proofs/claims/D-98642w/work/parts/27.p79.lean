set_option maxRecDepth 100000
/-! PURE LEVEL 79: the sign at hand -/
def tokK (s v : Int32) : Nat := if s = 0 then (if v = 16 then 3 else if v = 15 then 4 else 0) else if s = 3 then (if v = 60 then 5 else if v = 256 then 6 else if v = 61 then 7 else if v = 258 then 8 else if v = 257 then 9 else if v = 62 then 10 else if v = 43 then 11 else if v = 45 then 12 else if v = 42 then 13 else if v = 47 then 14 else 0) else 0
def sgK {β : Type} (j6 : Int32 → HP → Option β) (h2 : HP) : Option β := cal (m_isKey (15 : Int32) h2) (fun r4 h5 => if r4 = 0 then (cal (m_isKey (16 : Int32) h5) (fun r44 h45 => if r44 = 0 then (if (gI h45 0 8) = (5 : Int32) then (j6 ((5 : Int32) + (gI h45 0 9)) h45) else (cal (m_isSign (43 : Int32) h45) (fun r46 h47 => if r46 = 0 then (cal (m_isSign (45 : Int32) h47) (fun r48 h49 => if r48 = 0 then (cal (m_isSign (42 : Int32) h49) (fun r50 h51 => if r50 = 0 then (cal (m_isSign (47 : Int32) h51) (fun r52 h53 => if r52 = 0 then (j6 (0 : Int32) h53) else (j6 (14 : Int32) h53))) else (j6 (13 : Int32) h51))) else (j6 (12 : Int32) h49))) else (j6 (11 : Int32) h47)))) else (j6 (4 : Int32) h45))) else (j6 (3 : Int32) h5))
def sgD (x9 : Int32) (h23 : HP) : Option (Int32 × HP) := cal (m_isCounted h23) (fun r24 h25 => if r24 = 0 then (some ((0 : Int32), h25)) else (cal (m_waitsFor x9 h25) (fun r26 h27 => bnd (sI h27 0 50 (1 : Int32)) (fun h28 => cal (m_rank x9 h28) (fun r29 h30 => jon (fun (s32 : Int32) => grd (isB s32) (bnd (sI h30 0 51 s32) (fun h33 => cal (m_token h33) (fun r35 h36 => some ((1 : Int32), h36))))) (fun j31 => if (3 : Int32) ≤ r29 then (j31 (0 : Int32)) else (j31 (1 : Int32))))))))
def sgC (x9 s16 : Int32) (h17 : HP) : Option (Int32 × HP) := cal (m_bind s16 h17) (fun r18 h19 => cal (m_rank x9 h19) (fun r20 h21 => if r20 = (4 : Int32) then (if (gI h21 0 46) ≤ 0 then (sgD x9 h21) else (grd (inb ((gI h21 0 46) - (1 : Int32)) 96) (cal (m_rank (gI h21 25 (((gI h21 0 46) - (1 : Int32))).toNatClampNeg) h21) (fun r37 h38 => if r37 = (4 : Int32) then (cal (m_wrong (1 : Int32) h38) (fun r39 h40 => grd (isB r39) (some (r39, h40)))) else (sgD x9 h38))))) else (sgD x9 h21)))
def sgB (x9 : Int32) (h8 : HP) : Option (Int32 × HP) := if x9 = 0 then (cal (m_wrong (1 : Int32) h8) (fun r10 h11 => grd (isB r10) (some (r10, h11)))) else (cal (m_rank x9 h8) (fun r13 h14 => if r13 = (4 : Int32) then (sgC x9 (5 : Int32) h14) else (cal (m_rank x9 h14) (fun r42 h43 => sgC x9 r42 h43))))
def sgE (h2 : HP) : Option (Int32 × HP) := cal (m_bind (1 : Int32) h2) (fun r54 h55 => bnd (sI h55 0 46 ((gI h55 0 46) - (1 : Int32))) (fun h56 => bnd (sI h56 0 48 ((gI h56 0 48) - (1 : Int32))) (fun h57 => cal (m_token h57) (fun r58 h59 => some ((1 : Int32), h59)))))
theorem m_signs_e (h : HP) : m_signs h = cal (m_isSign (41 : Int32) h) (fun r1 h2 => if r1 = 0 then sgK sgB h2 else (if (gI h2 0 48) ≤ 0 then sgK sgB h2 else sgE h2)) := by
  delta m_signs sgE sgK sgB sgC sgD jon bnd
  exact Eq.refl _
section P29
variable {g : HP} {J : Nat → Nat → Int32} {M : Nat → Nat → Int64}
theorem em_isKey (x : Int32) : m_isKey x (hw g J M) = some (bI (decide (J 0 8 = 1 ∧ J 0 9 = x)), hw g J M) := by
  simp only [m_isKey, bnd_e, cal_s, onr_s, jon_e, gI_hw, gL_hw, gT_hw, gR_hw, gN_hw, sI_hw, sL_hw, cV_hw, shS_hw, shC_hw, shL_hw, ← bt_def]
  by_cases z : J 0 8 = 1
  · by_cases y : J 0 9 = x
    · rw [if_pos z, if_pos y, decide_eq_true ⟨z, y⟩]; rfl
    · rw [if_pos z, if_neg y, decide_eq_false (fun e => y e.2)]; rfl
  · rw [if_neg z, decide_eq_false (fun e => z e.1)]; rfl
theorem em_isSign (x : Int32) : m_isSign x (hw g J M) = some (bI (decide (J 0 8 = 4 ∧ J 0 9 = x)), hw g J M) := by
  simp only [m_isSign, bnd_e, cal_s, onr_s, jon_e, gI_hw, gL_hw, gT_hw, gR_hw, gN_hw, sI_hw, sL_hw, cV_hw, shS_hw, shC_hw, shL_hw, ← bt_def]
  by_cases z : J 0 8 = 4
  · by_cases y : J 0 9 = x
    · rw [if_pos z, if_pos y, decide_eq_true ⟨z, y⟩]; rfl
    · rw [if_pos z, if_neg y, decide_eq_false (fun e => y e.2)]; rfl
  · rw [if_neg z, decide_eq_false (fun e => z e.1)]; rfl
theorem ec_isSign {h : HP} {I : Nat → Nat → Int32} {L : Nat → Nat → Int64} (x : Int32) : cR_isSign x (hw h I L) = some (bI (decide (I 2 3 = 3 ∧ I 2 4 = x)), hw h I L) := by
  simp only [cR_isSign, bnd_e, cal_s, onr_s, jon_e, gI_hw, gL_hw, gT_hw, gR_hw, gN_hw, sI_hw, sL_hw, cV_hw, shS_hw, shC_hw, shL_hw, ← bt_def]
  by_cases z : I 2 3 = 3
  · by_cases y : I 2 4 = x
    · rw [if_pos z, if_pos y, decide_eq_true ⟨z, y⟩]; rfl
    · rw [if_pos z, if_neg y, decide_eq_false (fun e => y e.2)]; rfl
  · rw [if_neg z, decide_eq_false (fun e => z e.1)]; rfl
theorem ec_isWord {h : HP} {I : Nat → Nat → Int32} {L : Nat → Nat → Int64} (x y : Int32) : cR_isWord x y (hw h I L) = some (bI (decide (I 2 3 = 0 ∧ ¬ I 2 4 < x ∧ ¬ y < I 2 4)), hw h I L) := by
  simp only [cR_isWord, bnd_e, cal_s, onr_s, jon_e, gI_hw, gL_hw, gT_hw, gR_hw, gN_hw, sI_hw, sL_hw, cV_hw, shS_hw, shC_hw, shL_hw, ← bt_def, ec_in]
  by_cases z : I 2 3 = 0
  · rw [if_pos z]
    by_cases w : ¬ I 2 4 < x ∧ ¬ y < I 2 4
    · rw [decide_eq_true w, decide_eq_true ⟨z, w⟩]; rfl
    · rw [decide_eq_false w, decide_eq_false (fun e => w e.2)]; rfl
  · rw [if_neg z, decide_eq_false (fun e => z e.1)]; rfl
/-- the twelve signs -/
def Tk12 (s v k w : Int32) (q : Nat) : Prop := (s = 0 ∧ k = 1 ∧ ((v = 16 ∧ w = 15 ∧ q = 3) ∨ (v = 15 ∧ w = 16 ∧ q = 4))) ∨ (s = 3 ∧ ((k = 5 ∧ ((v = 60 ∧ w = 0 ∧ q = 5) ∨ (v = 256 ∧ w = 1 ∧ q = 6) ∨ (v = 61 ∧ w = 2 ∧ q = 7) ∨ (v = 258 ∧ w = 3 ∧ q = 8) ∨ (v = 257 ∧ w = 4 ∧ q = 9) ∨ (v = 62 ∧ w = 5 ∧ q = 10))) ∨ (k = 4 ∧ ((v = 43 ∧ w = 43 ∧ q = 11) ∨ (v = 45 ∧ w = 45 ∧ q = 12) ∨ (v = 42 ∧ w = 42 ∧ q = 13) ∨ (v = 47 ∧ w = 47 ∧ q = 14)))))
/-- no sign: neither and, or, a comparison, + - * / -/
def Tk0 (s v k w : Int32) : Prop := (¬ k = 5) ∧ ¬ (k = 1 ∧ w = 15) ∧ ¬ (k = 1 ∧ w = 16) ∧ ¬ (k = 4 ∧ w = 43) ∧ ¬ (k = 4 ∧ w = 45) ∧ ¬ (k = 4 ∧ w = 42) ∧ ¬ (k = 4 ∧ w = 47) ∧ ((k = 4 ∧ w = 59) ↔ (s = 3 ∧ v = 59)) ∧ ((k = 4 ∧ w = 41) ↔ (s = 3 ∧ v = 41)) ∧ ¬ (s = 0 ∧ v = 15) ∧ ¬ (s = 0 ∧ v = 16) ∧ ¬ (s = 3 ∧ (v = 60 ∨ v = 256 ∨ v = 61 ∨ v = 258 ∨ v = 257 ∨ v = 62 ∨ v = 43 ∨ v = 45 ∨ v = 42 ∨ v = 47))
theorem sw_lit {u : Nat} (hu : u < 25) : (u = 15 ∧ sw u = 16) ∨ (u = 16 ∧ sw u = 15) ∨ (u ≠ 15 ∧ u ≠ 16 ∧ sw u = u) := by
  unfold sw
  by_cases a : u = 15
  · exact Or.inl ⟨a, if_pos a⟩
  · by_cases b : u = 16
    · exact Or.inr (Or.inl ⟨b, by rw [if_neg a, if_pos b]⟩)
    · exact Or.inr (Or.inr ⟨a, b, by rw [if_neg a, if_neg b]⟩)
theorem tk_f {s v k w : Int32} (t : TokR s v k w) : (Tk12 s v k w (tokK s v) ∧ tokK s v ≠ 0) ∨ (Tk0 s v k w ∧ tokK s v = 0) := by
  rcases t with ⟨rfl, u, hu, rfl, rfl, rfl⟩ | ⟨rfl, rfl, rfl⟩ | ⟨rfl, rfl, rfl⟩ | ⟨rfl, ⟨rfl, rfl, h⟩ | ⟨rfl, h⟩⟩ | ⟨rfl, rfl⟩ | ⟨rfl, rfl | ⟨rfl, rfl⟩⟩
  · rcases sw_lit hu with ⟨rfl, e⟩ | ⟨rfl, e⟩ | ⟨n1, n2, e⟩
    · rw [e]; exact Or.inl ⟨Or.inl ⟨rfl, rfl, Or.inr ⟨rfl, rfl, rfl⟩⟩, by decide⟩
    · rw [e]; exact Or.inl ⟨Or.inl ⟨rfl, rfl, Or.inl ⟨rfl, rfl, rfl⟩⟩, by decide⟩
    · rw [e]
      have m1 : ¬ nn u = (15 : Int32) := fun e => n1 ((nn_eq (b := 15) (by omega) (by omega)).mp e)
      have m2 : ¬ nn u = (16 : Int32) := fun e => n2 ((nn_eq (b := 16) (by omega) (by omega)).mp e)
      refine Or.inr ⟨⟨by decide, fun e => m1 e.2, fun e => m2 e.2, fun e => absurd e.1 (by decide), fun e => absurd e.1 (by decide), fun e => absurd e.1 (by decide), fun e => absurd e.1 (by decide), ?_, ?_, fun e => m1 e.2, fun e => m2 e.2, fun e => absurd e.1 (by decide)⟩, ?_⟩
      · exact ⟨fun e => absurd e.1 (by decide), fun e => absurd e.1 (by decide)⟩
      · exact ⟨fun e => absurd e.1 (by decide), fun e => absurd e.1 (by decide)⟩
      · unfold tokK; rw [if_pos rfl, if_neg m2, if_neg m1]
  · refine Or.inr ⟨⟨by decide, fun e => absurd e.1 (by decide), fun e => absurd e.1 (by decide), fun e => absurd e.1 (by decide), fun e => absurd e.1 (by decide), fun e => absurd e.1 (by decide), fun e => absurd e.1 (by decide), ⟨fun e => absurd e.1 (by decide), fun e => absurd e.1 (by decide)⟩, ⟨fun e => absurd e.1 (by decide), fun e => absurd e.1 (by decide)⟩, fun e => absurd e.1 (by decide), fun e => absurd e.1 (by decide), fun e => absurd e.1 (by decide)⟩, ?_⟩
    unfold tokK; rw [if_neg (by decide), if_neg (by decide)]
  · refine Or.inr ⟨⟨by decide, fun e => absurd e.1 (by decide), fun e => absurd e.1 (by decide), fun e => absurd e.1 (by decide), fun e => absurd e.1 (by decide), fun e => absurd e.1 (by decide), fun e => absurd e.1 (by decide), ⟨fun e => absurd e.1 (by decide), fun e => absurd e.1 (by decide)⟩, ⟨fun e => absurd e.1 (by decide), fun e => absurd e.1 (by decide)⟩, fun e => absurd e.1 (by decide), fun e => absurd e.1 (by decide), fun e => absurd e.1 (by decide)⟩, ?_⟩
    unfold tokK; rw [if_neg (by decide), if_neg (by decide)]
  · rcases h with rfl | rfl | rfl | rfl | rfl | rfl | rfl
    · exact Or.inr (by unfold Tk0; decide)
    · exact Or.inr (by unfold Tk0; decide)
    · exact Or.inr (by unfold Tk0; decide)
    · exact Or.inl (by unfold Tk12; decide)
    · exact Or.inl (by unfold Tk12; decide)
    · exact Or.inl (by unfold Tk12; decide)
    · exact Or.inl (by unfold Tk12; decide)
  · rcases h with ⟨rfl, rfl⟩ | ⟨rfl, rfl⟩ | ⟨rfl, rfl⟩ | ⟨rfl, rfl⟩ | ⟨rfl, rfl⟩ | ⟨rfl, rfl⟩ <;> exact Or.inl (by unfold Tk12; decide)
  · refine Or.inr ⟨⟨by decide, fun e => absurd e.1 (by decide), fun e => absurd e.1 (by decide), fun e => absurd e.1 (by decide), fun e => absurd e.1 (by decide), fun e => absurd e.1 (by decide), fun e => absurd e.1 (by decide), ⟨fun e => absurd e.1 (by decide), fun e => absurd e.1 (by decide)⟩, ⟨fun e => absurd e.1 (by decide), fun e => absurd e.1 (by decide)⟩, fun e => absurd e.1 (by decide), fun e => absurd e.1 (by decide), fun e => absurd e.1 (by decide)⟩, ?_⟩
    unfold tokK; rw [if_neg (by decide), if_neg (by decide)]
  · refine Or.inr ⟨⟨by decide, fun e => absurd e.1 (by decide), fun e => absurd e.1 (by decide), fun e => absurd e.1 (by decide), fun e => absurd e.1 (by decide), fun e => absurd e.1 (by decide), fun e => absurd e.1 (by decide), ⟨fun e => absurd e.1 (by decide), fun e => absurd e.1 (by decide)⟩, ⟨fun e => absurd e.1 (by decide), fun e => absurd e.1 (by decide)⟩, fun e => absurd e.1 (by decide), fun e => absurd e.1 (by decide), fun e => absurd e.1 (by decide)⟩, ?_⟩
    unfold tokK; rw [if_neg (by decide), if_neg (by decide)]
  · refine Or.inr ⟨⟨by decide, fun e => absurd e.1 (by decide), fun e => absurd e.1 (by decide), fun e => absurd e.2 (by decide), fun e => absurd e.2 (by decide), fun e => absurd e.2 (by decide), fun e => absurd e.2 (by decide), ⟨fun e => absurd e.2 (by decide), fun e => absurd e.1 (by decide)⟩, ⟨fun e => absurd e.2 (by decide), fun e => absurd e.1 (by decide)⟩, fun e => absurd e.1 (by decide), fun e => absurd e.1 (by decide), fun e => absurd e.1 (by decide)⟩, ?_⟩
    unfold tokK; rw [if_neg (by decide), if_neg (by decide)]
theorem em_sgK {β : Type} (j6 : Int32 → HP → Option β) {s v : Int32} (t : TokR s v (J 0 8) (J 0 9)) : sgK j6 (hw g J M) = j6 (nn (tokK s v)) (hw g J M) := by
  have tf := tk_f t
  generalize tokK s v = q at tf ⊢
  generalize hk : J 0 8 = k at tf
  generalize hv : J 0 9 = w at tf
  simp only [sgK, em_isKey, em_isSign, bnd_e, cal_s, onr_s, jon_e, gI_hw, gL_hw, gT_hw, gR_hw, gN_hw, sI_hw, sL_hw, cV_hw, shS_hw, shC_hw, shL_hw, ← bt_def, bI_eq0, hk, hv]
  rcases tf with ⟨h, h0⟩ | ⟨⟨a1, a2, a3, a4, a5, a6, a7, -⟩, h0⟩
  · rcases h with ⟨rfl, rfl, ⟨rfl, rfl, rfl⟩ | ⟨rfl, rfl, rfl⟩⟩ | ⟨rfl, ⟨rfl, h⟩ | ⟨rfl, h⟩⟩
    · rfl
    · rfl
    · rcases h with ⟨rfl, rfl, rfl⟩ | ⟨rfl, rfl, rfl⟩ | ⟨rfl, rfl, rfl⟩ | ⟨rfl, rfl, rfl⟩ | ⟨rfl, rfl, rfl⟩ | ⟨rfl, rfl, rfl⟩ <;> rfl
    · rcases h with ⟨rfl, rfl, rfl⟩ | ⟨rfl, rfl, rfl⟩ | ⟨rfl, rfl, rfl⟩ | ⟨rfl, rfl, rfl⟩ <;> rfl
  · rw [decide_eq_false a2, decide_eq_false a3, decide_eq_false a4, decide_eq_false a5, decide_eq_false a6, decide_eq_false a7, h0]
    simp only [eq_self, Bool.true_eq_false, if_true, if_false]
    rw [if_neg a1]; rfl
end P29
